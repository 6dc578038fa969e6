/-! the reference: its methods -/
set_option maxRecDepth 100000
set_option maxHeartbeats 4000000 in
set_option maxRecDepth 100000 in
theorem kX9_no (l : Launch) (hl9 : l.stackTraces = false) (g : GG) (a : Nat → Nat) (s m im wa L R rf nu : Nat → Int32) (hi lm rn pl sd : Int32) (c : Int32) (hc : okC c) : MC l yX9_no cX9_no 2 (some .int) 0 0 0 0 g [.ref (a 0), .int c] (WM g a s m im wa L R rf nu hi lm rn pl sd) (rt (some (.int c)) (WM g a s m im wa L R (rfU rf c) nu hi lm rn pl sd)) (noX) := by
  refine MC.of (by decide) (Nat.le_of_ble_eq_true rfl) ?_
  intro p9 e9 s9 m9 args9 below9 meth9 c9 A9 ls cx htab hw hl
  have hx := cx.1
  have hb := cx.2.1
  have hts := cx.2.2.2.2.1
  have hK := cx.2.2.2.2.2.2.2.1
  have hl : lv_has ls 2 [(0, .ref (a 0)), (1, .int c)] := hl
  have hk := hc.lt
  refine lv_aload_n hx hb dX9_no_0 rfl (lv_at hl 0 rfl) ?_
  refine r_get cx hw in_X9 0 (ci := 8) (T := TX9) (N := 13) rfl rfl 7 (by decide) q1176 (fun _ h9 => h9) rfl dX9_no_1 ?_
  refine lv_iload_n hx hb dX9_no_4 rfl (lv_at hl 1 rfl) ?_
  refine lv_ineg hx hb dX9_no_5 ?_
  refine r_topi (x' := nI (cN c)) (hc.eq) ?_
  refine lv_dup2_11 hx hb dX9_no_6 rfl rfl ?_
  refine r_iald cx hw 7 rfl (cN c) rfl (by omega) (Nat.le_of_ble_eq_true rfl) dX9_no_7 ?_
  refine lv_iconst (v := 1) hx hb dX9_no_8 (by decide) ?_
  refine lv_iadd hx hb dX9_no_9 ?_
  refine r_iast cx hw 7 rfl (cN c) rfl (by omega) (Nat.le_of_ble_eq_true rfl) dX9_no_10 (fun H locs hw => ?_)
  have hw : WS g A9 s9.heap (WM g a s m im wa L R (upd rf (cN c) ((rf (cN c)) + 1)) nu hi lm rn pl sd) H locs := hw
  refine lv_iload_n hx hb dX9_no_11 rfl (lv_at hl 1 rfl) ?_
  exact r_iret cx hw (⟨rfl, rfl⟩) (Nat.le_of_ble_eq_true rfl) (Nat.le_of_ble_eq_true rfl) dX9_no_12

set_option maxHeartbeats 4000000 in
set_option maxRecDepth 100000 in
theorem kX9_noWide (l : Launch) (hl9 : l.stackTraces = false) (g : GG) (a : Nat → Nat) (s m im wa L R rf nu : Nat → Int32) (hi lm rn pl sd : Int32) (c : Int32) (hc : okC c) : MC l yX9_noWide cX9_noWide 2 (some .long) 1 21 0 0 g [.ref (a 0), .int c] (WM g a s m im wa L R rf nu hi lm rn pl sd) (rt (some (.long (4000000000000000000 - c.toInt64))) (WM g a s m im wa L R (rfU rf c) nu hi lm rn pl sd)) (noX) := by
  refine MC.of (by decide) (Nat.le_of_ble_eq_true rfl) ?_
  intro p9 e9 s9 m9 args9 below9 meth9 c9 A9 ls cx htab hw hl
  have hx := cx.1
  have hb := cx.2.1
  have hts := cx.2.2.2.2.1
  have hK := cx.2.2.2.2.2.2.2.1
  have hl : lv_has ls 2 [(0, .ref (a 0)), (1, .int c)] := hl
  refine lv_ldc2 hx hb cx.2.2.2.1 (hts _ q1459) dX9_noWide_0 ?_
  refine lv_aload_n hx hb dX9_noWide_3 rfl (lv_at hl 0 rfl) ?_
  refine lv_iload_n hx hb dX9_noWide_4 rfl (lv_at hl 1 rfl) ?_
  refine r_det (r_V cx hw (kX9_no l hl9 g a s m im wa L R rf nu hi lm rn pl sd c hc) (cwV 1 hts (lw_V q1213 q1215 qs65 q94 q1216) rfl rfl rfl (by decide +kernel) ⟨Nat.le_of_ble_eq_true rfl, Nat.le_of_ble_eq_true rfl⟩) (r_recv hK hw (k := 0) (ci := 8) rfl rfl) [0, 1, 2, 3, 4, 5, 6, 7, 8] rfl rfl rfl hl.1 rfl (Nat.le_of_ble_eq_true rfl) dX9_noWide_5 ⟨Nat.le_of_ble_eq_true rfl, Nat.le_of_ble_eq_true rfl⟩) cx hw [0, 1, 2, 3, 4, 5, 6, 7, 8] rfl rfl rfl (ws' := WM g a s m im wa L R (rfU rf c) nu hi lm rn pl sd) (rfl) (fun H locs hw => ?_)
  refine W.eq (g2 := F0 m9 8 ls [.int c, .long 4000000000000000000]) rfl ?_
  refine lv_i2l hx hb dX9_noWide_8 rfl ?_
  refine lv_lsub hx hb dX9_noWide_9 ?_
  exact r_lret cx hw (⟨rfl, rfl⟩) (Nat.le_of_ble_eq_true rfl) (Nat.le_of_ble_eq_true rfl) dX9_noWide_10

set_option maxHeartbeats 4000000 in
set_option maxRecDepth 100000 in
theorem kX9_isPerson (l : Launch) (hl9 : l.stackTraces = false) (g : GG) (a : Nat → Nat) (s m im wa L R rf nu : Nat → Int32) (hi lm rn pl sd : Int32) (p : Int32) : MC l yX9_isPerson cX9_isPerson 2 (some .boolean) 1 22 0 0 g [.ref (a 0), .int p] (WM g a s m im wa L R rf nu hi lm rn pl sd) (rt (some (.int (bI (psB s p)))) (WM g a s m im wa L R rf nu hi lm rn pl sd)) (noX) := by
  refine MC.of (by decide) (Nat.le_of_ble_eq_true rfl) ?_
  intro p9 e9 s9 m9 args9 below9 meth9 c9 A9 ls cx htab hw hl
  have hx := cx.1
  have hb := cx.2.1
  have hts := cx.2.2.2.2.1
  have hK := cx.2.2.2.2.2.2.2.1
  have hl : lv_has ls 2 [(0, .ref (a 0)), (1, .int p)] := hl
  refine lv_iload_n hx hb dX9_isPerson_0 rfl (lv_at hl 1 rfl) ?_
  refine lv_iconst (v := 0) hx hb dX9_isPerson_1 (by decide) ?_
  refine lv_aload_n hx hb dX9_isPerson_2 rfl (lv_at hl 0 rfl) ?_
  refine r_get cx hw in_X9 0 (ci := 8) (T := TX9) (N := 13) rfl rfl 0 (by decide) q1169 (fun _ h9 => h9) rfl dX9_isPerson_3 ?_
  refine lv_iconst (v := 0) hx hb dX9_isPerson_6 (by decide) ?_
  refine r_iald cx hw 1 rfl 0 rfl (by omega) (Nat.le_of_ble_eq_true rfl) dX9_isPerson_7 ?_
  refine lv_iconst (v := 1) hx hb dX9_isPerson_8 (by decide) ?_
  refine lv_isub hx hb dX9_isPerson_9 ?_
  refine r_det (r_S cx hw (kX9_isIn l hl9 g p 0 ((s 0) - 1)) (va_cwS 3 hts (lw_S q1240 q1241 q94 q1242) rfl rfl rfl (by decide +kernel) ⟨Nat.le_of_ble_eq_true rfl, Nat.le_of_ble_eq_true rfl⟩) [] rfl rfl rfl hl.1 rfl (Nat.le_of_ble_eq_true rfl) dX9_isPerson_10 ⟨Nat.le_of_ble_eq_true rfl, Nat.le_of_ble_eq_true rfl⟩) cx hw [] rfl rfl rfl (ws' := WM g a s m im wa L R rf nu hi lm rn pl sd) (rfl) (fun H locs hw => ?_)
  refine W.eq (g2 := F0 m9 13 ls [.int (bI (isInB p 0 ((s 0) - 1)))]) rfl ?_
  exact r_zret (bI_nar _) cx hw (⟨rfl, rfl⟩) (Nat.le_of_ble_eq_true rfl) (Nat.le_of_ble_eq_true rfl) dX9_isPerson_13

set_option maxHeartbeats 4000000 in
set_option maxRecDepth 100000 in
theorem kX9_sets (l : Launch) (hl9 : l.stackTraces = false) (g : GG) (a : Nat → Nat) (s m im wa L R rf nu : Nat → Int32) (hi lm rn pl sd : Int32) (k : Nat) (hk : k < 47) (v : Int32) : MC l yX9_sets cX9_sets 4 (some .int) 0 0 0 0 g [.ref (a 0), .int (nI k), .int v] (WM g a s m im wa L R rf nu hi lm rn pl sd) (rt (some (.int (s k))) (WM g a (upd s k v) m im wa L R rf nu hi lm rn pl sd)) (noX) := by
  refine MC.of (by decide) (Nat.le_of_ble_eq_true rfl) ?_
  intro p9 e9 s9 m9 args9 below9 meth9 c9 A9 ls cx htab hw hl
  have hx := cx.1
  have hb := cx.2.1
  have hts := cx.2.2.2.2.1
  have hK := cx.2.2.2.2.2.2.2.1
  have hl : lv_has ls 4 [(0, .ref (a 0)), (1, .int (nI k)), (2, .int v)] := hl
  refine lv_aload_n hx hb dX9_sets_0 rfl (lv_at hl 0 rfl) ?_
  refine r_get cx hw in_X9 0 (ci := 8) (T := TX9) (N := 13) rfl rfl 0 (by decide) q1169 (fun _ h9 => h9) rfl dX9_sets_1 ?_
  refine lv_iload_n hx hb dX9_sets_4 rfl (lv_at hl 1 rfl) ?_
  refine r_iald cx hw 1 rfl k rfl (by omega) (Nat.le_of_ble_eq_true rfl) dX9_sets_5 ?_
  refine lv_istore_n (lv' := [(3, .int (s k)), (0, .ref (a 0)), (1, .int (nI k)), (2, .int v)]) hx hb dX9_sets_6 rfl hl (by decide) rfl (fun ls hl => ?_)
  refine lv_aload_n hx hb dX9_sets_7 rfl (lv_at hl 1 rfl) ?_
  refine r_get cx hw in_X9 0 (ci := 8) (T := TX9) (N := 13) rfl rfl 0 (by decide) q1169 (fun _ h9 => h9) rfl dX9_sets_8 ?_
  refine lv_iload_n hx hb dX9_sets_11 rfl (lv_at hl 2 rfl) ?_
  refine lv_iload_n hx hb dX9_sets_12 rfl (lv_at hl 3 rfl) ?_
  refine r_iast cx hw 1 rfl k rfl (by omega) (Nat.le_of_ble_eq_true rfl) dX9_sets_13 (fun H locs hw => ?_)
  have hw : WS g A9 s9.heap (WM g a (upd s k v) m im wa L R rf nu hi lm rn pl sd) H locs := hw
  refine lv_iload_n hx hb dX9_sets_14 rfl (lv_at hl 0 rfl) ?_
  exact r_iret cx hw (⟨rfl, rfl⟩) (Nat.le_of_ble_eq_true rfl) (Nat.le_of_ble_eq_true rfl) dX9_sets_15

set_option maxHeartbeats 4000000 in
set_option maxRecDepth 100000 in
theorem kX9_person (l : Launch) (hl9 : l.stackTraces = false) (g : GG) (a : Nat → Nat) (s m im wa L R rf nu : Nat → Int32) (hi lm rn pl sd : Int32) (hI : InvM s) (p w : Int32) : MC l yX9_person cX9_person 3 (some .int) 3 64 0 0 g [.ref (a 0), .int p, .int w] (WM g a s m im wa L R rf nu hi lm rn pl sd) (rtE (α := Nat → Int32) (some (.int (ans (wPers s p w) (vPers s p w)))) (fun x9 => WM g a s x9 im wa L R (rfA (wPers s p w) rf) nu hi lm rn pl sd)) (noX) := by
  by_cases hps : psB s p = true
  · skip
    obtain ⟨k, hk, rfl⟩ := psB_rng hI hps
    have hN := hI.1
    have ek : tN (nI k) = k := tN_nI (by omega)
    by_cases h6 : isInB w 0 6 = true
    · skip
      obtain ⟨q, hq, rfl⟩ : ∃ q : Nat, q ≤ 6 ∧ w = nI q := by
        simp only [isInB, Bool.and_eq_true, decide_eq_true_eq] at h6
        exact nI_rng (M := 6) (by decide) h6.1 h6.2
      have e8 : isInB (nI q) 0 8 = true := by
        have : ∀ q, q ≤ 6 → isInB (nI q) 0 8 = true := by decide
        exact this q hq
      have eq9 : tN (nI q) = q := tN_nI (by omega)
      have hW : wPers s (nI k) (nI q) = 0 := by rw [wPers, if_pos hps, if_pos e8]
      refine MC.of (by decide) (Nat.le_of_ble_eq_true rfl) ?_
      intro p9 e9 s9 m9 args9 below9 meth9 c9 A9 ls cx htab hw hl
      have hx := cx.1
      have hb := cx.2.1
      have hts := cx.2.2.2.2.1
      have hK := cx.2.2.2.2.2.2.2.1
      have hl : lv_has ls 3 [(0, .ref (a 0)), (1, .int (nI k)), (2, .int (nI q))] := hl
      refine lv_aload_n hx hb dX9_person_0 rfl (lv_at hl 0 rfl) ?_
      refine lv_iload_n hx hb dX9_person_1 rfl (lv_at hl 1 rfl) ?_
      refine r_det (r_V cx hw (kX9_isPerson l hl9 g a s m im wa L R rf nu hi lm rn pl sd (nI k)) (cwV 1 hts (lw_V q1257 q1259 qs72 q94 q1260) rfl rfl rfl (by decide +kernel) ⟨Nat.le_of_ble_eq_true rfl, Nat.le_of_ble_eq_true rfl⟩) (r_recv hK hw (k := 0) (ci := 8) rfl rfl) [0, 1, 2, 3, 4, 5, 6, 7, 8] rfl rfl rfl hl.1 rfl (Nat.le_of_ble_eq_true rfl) dX9_person_2 ⟨Nat.le_of_ble_eq_true rfl, Nat.le_of_ble_eq_true rfl⟩) cx hw [0, 1, 2, 3, 4, 5, 6, 7, 8] rfl rfl rfl (ws' := WM g a s m im wa L R rf nu hi lm rn pl sd) (rfl) (fun H locs hw => ?_)
      refine W.eq (g2 := F0 m9 5 ls [.int (bI (psB s (nI k)))]) rfl ?_
      refine lv_if_ne (tgt := 14) hx hb dX9_person_5 (by decide) (fun c_5 => ?_) (fun c_5 => absurd c_5 (by rw [hps]; decide))
      refine lv_iload_n hx hb dX9_person_14 rfl (lv_at hl 2 rfl) ?_
      refine lv_iconst (v := 0) hx hb dX9_person_15 (by decide) ?_
      refine lv_bipush (v := 6) hx hb dX9_person_16 (by decide) ?_
      refine r_det (r_S cx hw (kX9_isIn l hl9 g (nI q) 0 6) (va_cwS 3 hts (lw_S q1240 q1241 q94 q1242) rfl rfl rfl (by decide +kernel) ⟨Nat.le_of_ble_eq_true rfl, Nat.le_of_ble_eq_true rfl⟩) [] rfl rfl rfl hl.1 rfl (Nat.le_of_ble_eq_true rfl) dX9_person_18 ⟨Nat.le_of_ble_eq_true rfl, Nat.le_of_ble_eq_true rfl⟩) cx hw [] rfl rfl rfl (ws' := WM g a s m im wa L R rf nu hi lm rn pl sd) (rfl) (fun H locs hw => ?_)
      refine W.eq (g2 := F0 m9 21 ls [.int (bI (isInB (nI q) 0 6))]) rfl ?_
      refine lv_if_eq (tgt := 35) hx hb dX9_person_21 (by decide) (fun c_21 => absurd c_21 (by rw [h6]; decide)) (fun c_21 => ?_)
      refine lv_aload_n hx hb dX9_person_24 rfl (lv_at hl 0 rfl) ?_
      refine r_get cx hw in_X9 0 (ci := 8) (T := TX9) (N := 13) rfl rfl 0 (by decide) q1169 (fun _ h9 => h9) rfl dX9_person_25 ?_
      refine lv_iload_n hx hb dX9_person_28 rfl (lv_at hl 1 rfl) ?_
      refine lv_iload_n hx hb dX9_person_29 rfl (lv_at hl 2 rfl) ?_
      refine r_det (r_S cx hw (kX9_of l hl9 g k q) (va_cwS 2 hts (lw_S q1254 q1255 q94 q1256) rfl rfl rfl (by decide +kernel) ⟨Nat.le_of_ble_eq_true rfl, Nat.le_of_ble_eq_true rfl⟩) [] rfl rfl rfl hl.1 rfl (Nat.le_of_ble_eq_true rfl) dX9_person_30 ⟨Nat.le_of_ble_eq_true rfl, Nat.le_of_ble_eq_true rfl⟩) cx hw [] rfl rfl rfl (ws' := WM g a s m im wa L R rf nu hi lm rn pl sd) (rfl) (fun H locs hw => ?_)
      refine W.eq (g2 := F0 m9 33 ls [.int (nI (5 + 7 * k + q)), .ref (a 1)]) rfl ?_
      refine r_iald cx hw 1 rfl (5 + 7 * k + q) rfl (by omega) (Nat.le_of_ble_eq_true rfl) dX9_person_33 ?_
      exact r_iret cx hw (⟨_, by rw [hW, ans_0]; rw [vPers, if_pos h6, ek, eq9], by rw [hW, rfA_0]⟩) (Nat.le_of_ble_eq_true rfl) (Nat.le_of_ble_eq_true rfl) dX9_person_34
    by_cases h7 : w = 7
    · skip
      subst h7
      have hW : wPers s (nI k) 7 = 0 := by rw [wPers, if_pos hps]; decide
      refine MC.of (by decide) (Nat.le_of_ble_eq_true rfl) ?_
      intro p9 e9 s9 m9 args9 below9 meth9 c9 A9 ls cx htab hw hl
      have hx := cx.1
      have hb := cx.2.1
      have hts := cx.2.2.2.2.1
      have hK := cx.2.2.2.2.2.2.2.1
      have hl : lv_has ls 3 [(0, .ref (a 0)), (1, .int (nI k)), (2, .int 7)] := hl
      refine lv_aload_n hx hb dX9_person_0 rfl (lv_at hl 0 rfl) ?_
      refine lv_iload_n hx hb dX9_person_1 rfl (lv_at hl 1 rfl) ?_
      refine r_det (r_V cx hw (kX9_isPerson l hl9 g a s m im wa L R rf nu hi lm rn pl sd (nI k)) (cwV 1 hts (lw_V q1257 q1259 qs72 q94 q1260) rfl rfl rfl (by decide +kernel) ⟨Nat.le_of_ble_eq_true rfl, Nat.le_of_ble_eq_true rfl⟩) (r_recv hK hw (k := 0) (ci := 8) rfl rfl) [0, 1, 2, 3, 4, 5, 6, 7, 8] rfl rfl rfl hl.1 rfl (Nat.le_of_ble_eq_true rfl) dX9_person_2 ⟨Nat.le_of_ble_eq_true rfl, Nat.le_of_ble_eq_true rfl⟩) cx hw [0, 1, 2, 3, 4, 5, 6, 7, 8] rfl rfl rfl (ws' := WM g a s m im wa L R rf nu hi lm rn pl sd) (rfl) (fun H locs hw => ?_)
      refine W.eq (g2 := F0 m9 5 ls [.int (bI (psB s (nI k)))]) rfl ?_
      refine lv_if_ne (tgt := 14) hx hb dX9_person_5 (by decide) (fun c_5 => ?_) (fun c_5 => absurd c_5 (by rw [hps]; decide))
      refine lv_iload_n hx hb dX9_person_14 rfl (lv_at hl 2 rfl) ?_
      refine lv_iconst (v := 0) hx hb dX9_person_15 (by decide) ?_
      refine lv_bipush (v := 6) hx hb dX9_person_16 (by decide) ?_
      refine r_det (r_S cx hw (kX9_isIn l hl9 g 7 0 6) (va_cwS 3 hts (lw_S q1240 q1241 q94 q1242) rfl rfl rfl (by decide +kernel) ⟨Nat.le_of_ble_eq_true rfl, Nat.le_of_ble_eq_true rfl⟩) [] rfl rfl rfl hl.1 rfl (Nat.le_of_ble_eq_true rfl) dX9_person_18 ⟨Nat.le_of_ble_eq_true rfl, Nat.le_of_ble_eq_true rfl⟩) cx hw [] rfl rfl rfl (ws' := WM g a s m im wa L R rf nu hi lm rn pl sd) (rfl) (fun H locs hw => ?_)
      refine W.eq (g2 := F0 m9 21 ls [.int (bI (isInB 7 0 6))]) rfl ?_
      refine lv_if_eq (tgt := 35) hx hb dX9_person_21 (by decide) (fun c_21 => ?_) (fun c_21 => absurd c_21 (by rw [(by decide : isInB 7 0 6 = false)]; decide))
      refine lv_iload_n hx hb dX9_person_35 rfl (lv_at hl 2 rfl) ?_
      refine lv_bipush (v := 7) hx hb dX9_person_36 (by decide) ?_
      refine lv_icmp_ne (tgt := 52) hx hb dX9_person_38 (by decide) (fun c_38 => absurd c_38 (by decide)) (fun c_38 => ?_)
      refine lv_aload_n hx hb dX9_person_41 rfl (lv_at hl 0 rfl) ?_
      refine r_get cx hw in_X9 0 (ci := 8) (T := TX9) (N := 13) rfl rfl 0 (by decide) q1169 (fun _ h9 => h9) rfl dX9_person_42 ?_
      refine lv_iload_n hx hb dX9_person_45 rfl (lv_at hl 1 rfl) ?_
      refine r_det (r_S cx hw (kX9_speaksIn l hl9 g (a 1) s k (by omega)) (va_cwS 2 hts (lw_S q1270 q1271 q94 q1272) rfl rfl rfl (by decide +kernel) ⟨Nat.le_of_ble_eq_true rfl, Nat.le_of_ble_eq_true rfl⟩) [1] rfl rfl rfl hl.1 rfl (Nat.le_of_ble_eq_true rfl) dX9_person_46 ⟨Nat.le_of_ble_eq_true rfl, Nat.le_of_ble_eq_true rfl⟩) cx hw [1] rfl rfl rfl (ws' := WM g a s m im wa L R rf nu hi lm rn pl sd) (rfl) (fun H locs hw => ?_)
      refine W.eq (g2 := F0 m9 49 ls [.int (spI s k)]) rfl ?_
      refine lv_goto (tgt := 80) hx hb dX9_person_49 (by decide) ?_
      exact r_iret cx hw (⟨_, by rw [hW, ans_0]; rw [vPers, if_neg h6, if_pos rfl, ek], by rw [hW, rfA_0]⟩) (Nat.le_of_ble_eq_true rfl) (Nat.le_of_ble_eq_true rfl) dX9_person_80
    by_cases h8 : w = 8
    · skip
      subst h8
      have hW : wPers s (nI k) 8 = 0 := by rw [wPers, if_pos hps]; decide
      refine MC.of (by decide) (Nat.le_of_ble_eq_true rfl) ?_
      intro p9 e9 s9 m9 args9 below9 meth9 c9 A9 ls cx htab hw hl
      have hx := cx.1
      have hb := cx.2.1
      have hts := cx.2.2.2.2.1
      have hK := cx.2.2.2.2.2.2.2.1
      have hl : lv_has ls 3 [(0, .ref (a 0)), (1, .int (nI k)), (2, .int 8)] := hl
      refine lv_aload_n hx hb dX9_person_0 rfl (lv_at hl 0 rfl) ?_
      refine lv_iload_n hx hb dX9_person_1 rfl (lv_at hl 1 rfl) ?_
      refine r_det (r_V cx hw (kX9_isPerson l hl9 g a s m im wa L R rf nu hi lm rn pl sd (nI k)) (cwV 1 hts (lw_V q1257 q1259 qs72 q94 q1260) rfl rfl rfl (by decide +kernel) ⟨Nat.le_of_ble_eq_true rfl, Nat.le_of_ble_eq_true rfl⟩) (r_recv hK hw (k := 0) (ci := 8) rfl rfl) [0, 1, 2, 3, 4, 5, 6, 7, 8] rfl rfl rfl hl.1 rfl (Nat.le_of_ble_eq_true rfl) dX9_person_2 ⟨Nat.le_of_ble_eq_true rfl, Nat.le_of_ble_eq_true rfl⟩) cx hw [0, 1, 2, 3, 4, 5, 6, 7, 8] rfl rfl rfl (ws' := WM g a s m im wa L R rf nu hi lm rn pl sd) (rfl) (fun H locs hw => ?_)
      refine W.eq (g2 := F0 m9 5 ls [.int (bI (psB s (nI k)))]) rfl ?_
      refine lv_if_ne (tgt := 14) hx hb dX9_person_5 (by decide) (fun c_5 => ?_) (fun c_5 => absurd c_5 (by rw [hps]; decide))
      refine lv_iload_n hx hb dX9_person_14 rfl (lv_at hl 2 rfl) ?_
      refine lv_iconst (v := 0) hx hb dX9_person_15 (by decide) ?_
      refine lv_bipush (v := 6) hx hb dX9_person_16 (by decide) ?_
      refine r_det (r_S cx hw (kX9_isIn l hl9 g 8 0 6) (va_cwS 3 hts (lw_S q1240 q1241 q94 q1242) rfl rfl rfl (by decide +kernel) ⟨Nat.le_of_ble_eq_true rfl, Nat.le_of_ble_eq_true rfl⟩) [] rfl rfl rfl hl.1 rfl (Nat.le_of_ble_eq_true rfl) dX9_person_18 ⟨Nat.le_of_ble_eq_true rfl, Nat.le_of_ble_eq_true rfl⟩) cx hw [] rfl rfl rfl (ws' := WM g a s m im wa L R rf nu hi lm rn pl sd) (rfl) (fun H locs hw => ?_)
      refine W.eq (g2 := F0 m9 21 ls [.int (bI (isInB 8 0 6))]) rfl ?_
      refine lv_if_eq (tgt := 35) hx hb dX9_person_21 (by decide) (fun c_21 => ?_) (fun c_21 => absurd c_21 (by rw [(by decide : isInB 8 0 6 = false)]; decide))
      refine lv_iload_n hx hb dX9_person_35 rfl (lv_at hl 2 rfl) ?_
      refine lv_bipush (v := 7) hx hb dX9_person_36 (by decide) ?_
      refine lv_icmp_ne (tgt := 52) hx hb dX9_person_38 (by decide) (fun c_38 => ?_) (fun c_38 => absurd c_38 (by decide))
      refine lv_iload_n hx hb dX9_person_52 rfl (lv_at hl 2 rfl) ?_
      refine lv_bipush (v := 8) hx hb dX9_person_53 (by decide) ?_
      refine lv_icmp_ne (tgt := 74) hx hb dX9_person_55 (by decide) (fun c_55 => absurd c_55 (by decide)) (fun c_55 => ?_)
      refine lv_aload_n hx hb dX9_person_58 rfl (lv_at hl 0 rfl) ?_
      refine r_get cx hw in_X9 0 (ci := 8) (T := TX9) (N := 13) rfl rfl 0 (by decide) q1169 (fun _ h9 => h9) rfl dX9_person_59 ?_
      refine lv_iload_n hx hb dX9_person_62 rfl (lv_at hl 1 rfl) ?_
      refine lv_iconst (v := 0) hx hb dX9_person_63 (by decide) ?_
      refine r_det (r_S cx hw (kX9_of l hl9 g k 0) (va_cwS 2 hts (lw_S q1254 q1255 q94 q1256) rfl rfl rfl (by decide +kernel) ⟨Nat.le_of_ble_eq_true rfl, Nat.le_of_ble_eq_true rfl⟩) [] rfl rfl rfl hl.1 rfl (Nat.le_of_ble_eq_true rfl) dX9_person_64 ⟨Nat.le_of_ble_eq_true rfl, Nat.le_of_ble_eq_true rfl⟩) cx hw [] rfl rfl rfl (ws' := WM g a s m im wa L R rf nu hi lm rn pl sd) (rfl) (fun H locs hw => ?_)
      refine W.eq (g2 := F0 m9 67 ls [.int (nI (5 + 7 * k)), .ref (a 1)]) rfl ?_
      refine r_iald cx hw 1 rfl (5 + 7 * k) rfl (by omega) (Nat.le_of_ble_eq_true rfl) dX9_person_67 ?_
      refine r_det (r_S cx hw (kX9_drinksBy l hl9 g (s (5 + 7 * k))) (va_cwS 1 hts (lw_S q1285 q1286 q94 q1287) rfl rfl rfl (by decide +kernel) ⟨Nat.le_of_ble_eq_true rfl, Nat.le_of_ble_eq_true rfl⟩) [] rfl rfl rfl hl.1 rfl (Nat.le_of_ble_eq_true rfl) dX9_person_68 ⟨Nat.le_of_ble_eq_true rfl, Nat.le_of_ble_eq_true rfl⟩) cx hw [] rfl rfl rfl (ws' := WM g a s m im wa L R rf nu hi lm rn pl sd) (rfl) (fun H locs hw => ?_)
      refine W.eq (g2 := F0 m9 71 ls [.int (drB (s (5 + 7 * k)))]) rfl ?_
      refine lv_goto (tgt := 80) hx hb dX9_person_71 (by decide) ?_
      exact r_iret cx hw (⟨_, by rw [hW, ans_0]; rw [vPers, if_neg h6, if_neg (by decide), ek], by rw [hW, rfA_0]⟩) (Nat.le_of_ble_eq_true rfl) (Nat.le_of_ble_eq_true rfl) dX9_person_80
    have h9 : isInB w 0 8 = false := by
      cases hb : isInB w 0 8 with
      | false => rfl
      | true =>
        simp only [isInB, Bool.and_eq_true, decide_eq_true_eq] at hb
        obtain ⟨q, hq, rfl⟩ := nI_rng (M := 8) (by decide) hb.1 hb.2
        have : ∀ q, q ≤ 8 → isInB (nI q) 0 6 = true ∨ nI q = 7 ∨ nI q = 8 := by decide
        rcases this q hq with h | h | h
        · exact absurd h h6
        · exact absurd h h7
        · exact absurd h h8
    have h6 : isInB w 0 6 = false := by simpa using h6
    have hW : wPers s (nI k) w = -2 := by rw [wPers, if_pos hps, if_neg (by rw [h9]; decide)]
    have hne : ¬ wPers s (nI k) w = 0 := by rw [hW]; decide
    refine MC.of (by decide) (Nat.le_of_ble_eq_true rfl) ?_
    intro p9 e9 s9 m9 args9 below9 meth9 c9 A9 ls cx htab hw hl
    have hx := cx.1
    have hb := cx.2.1
    have hts := cx.2.2.2.2.1
    have hK := cx.2.2.2.2.2.2.2.1
    have hl : lv_has ls 3 [(0, .ref (a 0)), (1, .int (nI k)), (2, .int w)] := hl
    refine lv_aload_n hx hb dX9_person_0 rfl (lv_at hl 0 rfl) ?_
    refine lv_iload_n hx hb dX9_person_1 rfl (lv_at hl 1 rfl) ?_
    refine r_det (r_V cx hw (kX9_isPerson l hl9 g a s m im wa L R rf nu hi lm rn pl sd (nI k)) (cwV 1 hts (lw_V q1257 q1259 qs72 q94 q1260) rfl rfl rfl (by decide +kernel) ⟨Nat.le_of_ble_eq_true rfl, Nat.le_of_ble_eq_true rfl⟩) (r_recv hK hw (k := 0) (ci := 8) rfl rfl) [0, 1, 2, 3, 4, 5, 6, 7, 8] rfl rfl rfl hl.1 rfl (Nat.le_of_ble_eq_true rfl) dX9_person_2 ⟨Nat.le_of_ble_eq_true rfl, Nat.le_of_ble_eq_true rfl⟩) cx hw [0, 1, 2, 3, 4, 5, 6, 7, 8] rfl rfl rfl (ws' := WM g a s m im wa L R rf nu hi lm rn pl sd) (rfl) (fun H locs hw => ?_)
    refine W.eq (g2 := F0 m9 5 ls [.int (bI (psB s (nI k)))]) rfl ?_
    refine lv_if_ne (tgt := 14) hx hb dX9_person_5 (by decide) (fun c_5 => ?_) (fun c_5 => absurd c_5 (by rw [hps]; decide))
    refine lv_iload_n hx hb dX9_person_14 rfl (lv_at hl 2 rfl) ?_
    refine lv_iconst (v := 0) hx hb dX9_person_15 (by decide) ?_
    refine lv_bipush (v := 6) hx hb dX9_person_16 (by decide) ?_
    refine r_det (r_S cx hw (kX9_isIn l hl9 g w 0 6) (va_cwS 3 hts (lw_S q1240 q1241 q94 q1242) rfl rfl rfl (by decide +kernel) ⟨Nat.le_of_ble_eq_true rfl, Nat.le_of_ble_eq_true rfl⟩) [] rfl rfl rfl hl.1 rfl (Nat.le_of_ble_eq_true rfl) dX9_person_18 ⟨Nat.le_of_ble_eq_true rfl, Nat.le_of_ble_eq_true rfl⟩) cx hw [] rfl rfl rfl (ws' := WM g a s m im wa L R rf nu hi lm rn pl sd) (rfl) (fun H locs hw => ?_)
    refine W.eq (g2 := F0 m9 21 ls [.int (bI (isInB w 0 6))]) rfl ?_
    refine lv_if_eq (tgt := 35) hx hb dX9_person_21 (by decide) (fun c_21 => ?_) (fun c_21 => absurd c_21 (by rw [h6]; decide))
    refine lv_iload_n hx hb dX9_person_35 rfl (lv_at hl 2 rfl) ?_
    refine lv_bipush (v := 7) hx hb dX9_person_36 (by decide) ?_
    refine lv_icmp_ne (tgt := 52) hx hb dX9_person_38 (by decide) (fun c_9 => ?_) (fun c_9 => absurd c_9 h7)
    refine lv_iload_n hx hb dX9_person_52 rfl (lv_at hl 2 rfl) ?_
    refine lv_bipush (v := 8) hx hb dX9_person_53 (by decide) ?_
    refine lv_icmp_ne (tgt := 74) hx hb dX9_person_55 (by decide) (fun c_9 => ?_) (fun c_9 => absurd c_9 h8)
    refine lv_aload_n hx hb dX9_person_74 rfl (lv_at hl 0 rfl) ?_
    refine lv_bipush (v := (-2)) hx hb dX9_person_75 (by decide) ?_
    refine r_det (r_V cx hw (kX9_no l hl9 g a s m im wa L R rf nu hi lm rn pl sd (-2) (by unfold okC; decide)) (cwV 1 hts (lw_V q1213 q1215 qs65 q94 q1216) rfl rfl rfl (by decide +kernel) ⟨Nat.le_of_ble_eq_true rfl, Nat.le_of_ble_eq_true rfl⟩) (r_recv hK hw (k := 0) (ci := 8) rfl rfl) [0, 1, 2, 3, 4, 5, 6, 7, 8] rfl rfl rfl hl.1 rfl (Nat.le_of_ble_eq_true rfl) dX9_person_77 ⟨Nat.le_of_ble_eq_true rfl, Nat.le_of_ble_eq_true rfl⟩) cx hw [0, 1, 2, 3, 4, 5, 6, 7, 8] rfl rfl rfl (ws' := WM g a s m im wa L R (rfU rf (-2)) nu hi lm rn pl sd) (rfl) (fun H locs hw => ?_)
    refine W.eq (g2 := F0 m9 80 ls [.int (-2)]) rfl ?_
    exact r_iret cx hw (⟨_, by rw [ans_n hne, hW], by rw [rfA_n hne, hW]⟩) (Nat.le_of_ble_eq_true rfl) (Nat.le_of_ble_eq_true rfl) dX9_person_80
  · skip
    have hps : psB s p = false := by simpa using hps
    have hW : wPers s p w = -1 := by rw [wPers, if_neg (by rw [hps]; decide)]
    have hne : ¬ wPers s p w = 0 := by rw [hW]; decide
    refine MC.of (by decide) (Nat.le_of_ble_eq_true rfl) ?_
    intro p9 e9 s9 m9 args9 below9 meth9 c9 A9 ls cx htab hw hl
    have hx := cx.1
    have hb := cx.2.1
    have hts := cx.2.2.2.2.1
    have hK := cx.2.2.2.2.2.2.2.1
    have hl : lv_has ls 3 [(0, .ref (a 0)), (1, .int p), (2, .int w)] := hl
    refine lv_aload_n hx hb dX9_person_0 rfl (lv_at hl 0 rfl) ?_
    refine lv_iload_n hx hb dX9_person_1 rfl (lv_at hl 1 rfl) ?_
    refine r_det (r_V cx hw (kX9_isPerson l hl9 g a s m im wa L R rf nu hi lm rn pl sd p) (cwV 1 hts (lw_V q1257 q1259 qs72 q94 q1260) rfl rfl rfl (by decide +kernel) ⟨Nat.le_of_ble_eq_true rfl, Nat.le_of_ble_eq_true rfl⟩) (r_recv hK hw (k := 0) (ci := 8) rfl rfl) [0, 1, 2, 3, 4, 5, 6, 7, 8] rfl rfl rfl hl.1 rfl (Nat.le_of_ble_eq_true rfl) dX9_person_2 ⟨Nat.le_of_ble_eq_true rfl, Nat.le_of_ble_eq_true rfl⟩) cx hw [0, 1, 2, 3, 4, 5, 6, 7, 8] rfl rfl rfl (ws' := WM g a s m im wa L R rf nu hi lm rn pl sd) (rfl) (fun H locs hw => ?_)
    refine W.eq (g2 := F0 m9 5 ls [.int (bI (psB s p))]) rfl ?_
    refine lv_if_ne (tgt := 14) hx hb dX9_person_5 (by decide) (fun c_5 => absurd c_5 (by rw [hps]; decide)) (fun c_5 => ?_)
    refine lv_aload_n hx hb dX9_person_8 rfl (lv_at hl 0 rfl) ?_
    refine lv_iconst (v := (-1)) hx hb dX9_person_9 (by decide) ?_
    refine r_det (r_V cx hw (kX9_no l hl9 g a s m im wa L R rf nu hi lm rn pl sd (-1) (by unfold okC; decide)) (cwV 1 hts (lw_V q1213 q1215 qs65 q94 q1216) rfl rfl rfl (by decide +kernel) ⟨Nat.le_of_ble_eq_true rfl, Nat.le_of_ble_eq_true rfl⟩) (r_recv hK hw (k := 0) (ci := 8) rfl rfl) [0, 1, 2, 3, 4, 5, 6, 7, 8] rfl rfl rfl hl.1 rfl (Nat.le_of_ble_eq_true rfl) dX9_person_10 ⟨Nat.le_of_ble_eq_true rfl, Nat.le_of_ble_eq_true rfl⟩) cx hw [0, 1, 2, 3, 4, 5, 6, 7, 8] rfl rfl rfl (ws' := WM g a s m im wa L R (rfU rf (-1)) nu hi lm rn pl sd) (rfl) (fun H locs hw => ?_)
    refine W.eq (g2 := F0 m9 13 ls [.int (-1)]) rfl ?_
    exact r_iret cx hw (⟨_, by rw [ans_n hne, hW], by rw [rfA_n hne, hW]⟩) (Nat.le_of_ble_eq_true rfl) (Nat.le_of_ble_eq_true rfl) dX9_person_13

set_option maxHeartbeats 4000000 in
set_option maxRecDepth 100000 in
theorem kX9_takes (l : Launch) (hl9 : l.stackTraces = false) (g : GG) (a : Nat → Nat) (s m im wa L R rf nu : Nat → Int32) (hi lm rn pl sd : Int32) (hI : InvM s) (n : Nat) (hn : n < 1000) : MC l yX9_takes cX9_takes 2 none 5 111 0 0 g [.ref (a 0), .int (nI n)] (WM g a s m im wa L R rf nu hi lm rn pl sd) (rt none (WM g a s (hoursF s n) im wa L R rf nu hi lm rn pl sd)) (noX) := by
  refine MC.of (by decide) (Nat.le_of_ble_eq_true rfl) ?_
  intro p9 e9 s9 m9 args9 below9 meth9 c9 A9 ls cx htab hw hl
  have hx := cx.1
  have hb := cx.2.1
  have hts := cx.2.2.2.2.1
  have hK := cx.2.2.2.2.2.2.2.1
  have hl : lv_has ls 2 [(0, .ref (a 0)), (1, .int (nI n))] := hl
  refine lv_aload_n hx hb dX9_takes_0 rfl (lv_at hl 0 rfl) ?_
  refine r_get cx hw in_X9 0 (ci := 8) (T := TX9) (N := 13) rfl rfl 0 (by decide) q1169 (fun _ h9 => h9) rfl dX9_takes_1 ?_
  refine lv_aload_n hx hb dX9_takes_4 rfl (lv_at hl 0 rfl) ?_
  refine r_get cx hw in_X9 0 (ci := 8) (T := TX9) (N := 13) rfl rfl 1 (by decide) q1170 (fun _ h9 => h9) rfl dX9_takes_5 ?_
  refine r_det (r_S cx hw (kX9_copies l hl9 g (a 1) (a 2) s m) (va_cwS 2 hts (lw_S q1243 q1244 q94 q1245) rfl rfl rfl (by decide +kernel) ⟨Nat.le_of_ble_eq_true rfl, Nat.le_of_ble_eq_true rfl⟩) [1, 2] rfl rfl rfl hl.1 rfl (Nat.le_of_ble_eq_true rfl) dX9_takes_8 ⟨Nat.le_of_ble_eq_true rfl, Nat.le_of_ble_eq_true rfl⟩) cx hw [1, 2] rfl rfl rfl (ws' := WM g a s s im wa L R rf nu hi lm rn pl sd) (rfl) (fun H locs hw => ?_)
  refine W.eq (g2 := F0 m9 11 ls []) rfl ?_
  refine lv_aload_n hx hb dX9_takes_11 rfl (lv_at hl 0 rfl) ?_
  refine r_get cx hw in_X9 0 (ci := 8) (T := TX9) (N := 13) rfl rfl 1 (by decide) q1170 (fun _ h9 => h9) rfl dX9_takes_12 ?_
  refine lv_iload_n hx hb dX9_takes_15 rfl (lv_at hl 1 rfl) ?_
  refine r_det (r_S cx hw (kX9_hoursOn l hl9 g (a 2) s hI n (by omega)) (va_cwS 2 hts (lw_S q1261 q1262 q94 q1263) rfl rfl rfl (by decide +kernel) ⟨Nat.le_of_ble_eq_true rfl, Nat.le_of_ble_eq_true rfl⟩) [2] rfl rfl rfl hl.1 rfl (Nat.le_of_ble_eq_true rfl) dX9_takes_16 ⟨Nat.le_of_ble_eq_true rfl, Nat.le_of_ble_eq_true rfl⟩) cx hw [2] rfl rfl rfl (ws' := WM g a s (hoursF s n) im wa L R rf nu hi lm rn pl sd) (rfl) (fun H locs hw => ?_)
  refine W.eq (g2 := F0 m9 19 ls []) rfl ?_
  exact r_vret cx hw (⟨rfl, rfl⟩) (Nat.le_of_ble_eq_true rfl) (Nat.le_of_ble_eq_true rfl) dX9_takes_19

set_option maxHeartbeats 4000000 in
set_option maxRecDepth 100000 in
theorem kX9_speaks (l : Launch) (hl9 : l.stackTraces = false) (g : GG) (a : Nat → Nat) (s m im wa L R rf nu : Nat → Int32) (hi lm rn pl sd : Int32) (hI : InvM s) (p : Int32) : MC l yX9_speaks cX9_speaks 2 (some .int) 2 44 0 0 g [.ref (a 0), .int p] (WM g a s m im wa L R rf nu hi lm rn pl sd) (rtE (α := Nat → Int32) (some (.int (ans (wSpk s p) (vSpk s p)))) (fun x9 => WM g a (sA (wSpk s p) (sSpk s p) s) x9 im wa L R (rfA (wSpk s p) rf) nu hi lm rn pl sd)) (noX) := by
  by_cases hps_p : psB s p = true
  · skip
    obtain ⟨k, hk, rfl⟩ := psB_rng hI hps_p
    have hN := hI.1
    have ek : tN (nI k) = k := tN_nI (by omega)
    by_cases h1 : s (5 + 7 * k + 4) = 1
    · skip
      have hW : wSpk s (nI k) = -3 := by simp [wSpk, hps_p, h1, ek]
      have hne : ¬ wSpk s (nI k) = 0 := by rw [hW]; decide
      refine MC.of (by decide) (Nat.le_of_ble_eq_true rfl) ?_
      intro p9 e9 s9 m9 args9 below9 meth9 c9 A9 ls cx htab hw hl
      have hx := cx.1
      have hb := cx.2.1
      have hts := cx.2.2.2.2.1
      have hK := cx.2.2.2.2.2.2.2.1
      have hl : lv_has ls 2 [(0, .ref (a 0)), (1, .int (nI k))] := hl
      refine lv_aload_n hx hb dX9_speaks_0 rfl (lv_at hl 0 rfl) ?_
      refine lv_iload_n hx hb dX9_speaks_1 rfl (lv_at hl 1 rfl) ?_
      refine r_det (r_V cx hw (kX9_isPerson l hl9 g a s m im wa L R rf nu hi lm rn pl sd (nI k)) (cwV 1 hts (lw_V q1257 q1259 qs72 q94 q1260) rfl rfl rfl (by decide +kernel) ⟨Nat.le_of_ble_eq_true rfl, Nat.le_of_ble_eq_true rfl⟩) (r_recv hK hw (k := 0) (ci := 8) rfl rfl) [0, 1, 2, 3, 4, 5, 6, 7, 8] rfl rfl rfl hl.1 rfl (Nat.le_of_ble_eq_true rfl) dX9_speaks_2 ⟨Nat.le_of_ble_eq_true rfl, Nat.le_of_ble_eq_true rfl⟩) cx hw [0, 1, 2, 3, 4, 5, 6, 7, 8] rfl rfl rfl (ws' := WM g a s m im wa L R rf nu hi lm rn pl sd) (rfl) (fun H locs hw => ?_)
      refine W.eq (g2 := F0 m9 5 ls [.int (bI (psB s (nI k)))]) rfl ?_
      refine lv_if_ne (tgt := 14) hx hb dX9_speaks_5 (by decide) (fun c_5 => ?_) (fun c_5 => absurd c_5 (by rw [hps_p]; decide))
      refine lv_aload_n hx hb dX9_speaks_14 rfl (lv_at hl 0 rfl) ?_
      refine r_get cx hw in_X9 0 (ci := 8) (T := TX9) (N := 13) rfl rfl 0 (by decide) q1169 (fun _ h9 => h9) rfl dX9_speaks_15 ?_
      refine lv_iload_n hx hb dX9_speaks_18 rfl (lv_at hl 1 rfl) ?_
      refine lv_iconst (v := 4) hx hb dX9_speaks_19 (by decide) ?_
      refine r_det (r_S cx hw (kX9_of l hl9 g k 4) (va_cwS 2 hts (lw_S q1254 q1255 q94 q1256) rfl rfl rfl (by decide +kernel) ⟨Nat.le_of_ble_eq_true rfl, Nat.le_of_ble_eq_true rfl⟩) [] rfl rfl rfl hl.1 rfl (Nat.le_of_ble_eq_true rfl) dX9_speaks_20 ⟨Nat.le_of_ble_eq_true rfl, Nat.le_of_ble_eq_true rfl⟩) cx hw [] rfl rfl rfl (ws' := WM g a s m im wa L R rf nu hi lm rn pl sd) (rfl) (fun H locs hw => ?_)
      refine W.eq (g2 := F0 m9 23 ls [.int (nI (5 + 7 * k + 4)), .ref (a 1)]) rfl ?_
      refine r_iald cx hw 1 rfl (5 + 7 * k + 4) rfl (by omega) (Nat.le_of_ble_eq_true rfl) dX9_speaks_23 ?_
      refine lv_iconst (v := 1) hx hb dX9_speaks_24 (by decide) ?_
      refine lv_icmp_ne (tgt := 35) hx hb dX9_speaks_25 (by decide) (fun c_9 => absurd h1 c_9) (fun c_9 => ?_)
      refine lv_aload_n hx hb dX9_speaks_28 rfl (lv_at hl 0 rfl) ?_
      refine lv_bipush (v := (-3)) hx hb dX9_speaks_29 (by decide) ?_
      refine r_det (r_V cx hw (kX9_no l hl9 g a s m im wa L R rf nu hi lm rn pl sd (-3) (by unfold okC; decide)) (cwV 1 hts (lw_V q1213 q1215 qs65 q94 q1216) rfl rfl rfl (by decide +kernel) ⟨Nat.le_of_ble_eq_true rfl, Nat.le_of_ble_eq_true rfl⟩) (r_recv hK hw (k := 0) (ci := 8) rfl rfl) [0, 1, 2, 3, 4, 5, 6, 7, 8] rfl rfl rfl hl.1 rfl (Nat.le_of_ble_eq_true rfl) dX9_speaks_31 ⟨Nat.le_of_ble_eq_true rfl, Nat.le_of_ble_eq_true rfl⟩) cx hw [0, 1, 2, 3, 4, 5, 6, 7, 8] rfl rfl rfl (ws' := WM g a s m im wa L R (rfU rf (-3)) nu hi lm rn pl sd) (rfl) (fun H locs hw => ?_)
      refine W.eq (g2 := F0 m9 34 ls [.int (-3)]) rfl ?_
      exact r_iret cx hw (⟨_, by rw [ans_n hne, hW], by rw [rfA_n hne, sA_n hne, hW]⟩) (Nat.le_of_ble_eq_true rfl) (Nat.le_of_ble_eq_true rfl) dX9_speaks_34
    · skip
      have hW : wSpk s (nI k) = 0 := by simp [wSpk, hps_p, h1, ek]
      refine MC.of (by decide) (Nat.le_of_ble_eq_true rfl) ?_
      intro p9 e9 s9 m9 args9 below9 meth9 c9 A9 ls cx htab hw hl
      have hx := cx.1
      have hb := cx.2.1
      have hts := cx.2.2.2.2.1
      have hK := cx.2.2.2.2.2.2.2.1
      have hl : lv_has ls 2 [(0, .ref (a 0)), (1, .int (nI k))] := hl
      refine lv_aload_n hx hb dX9_speaks_0 rfl (lv_at hl 0 rfl) ?_
      refine lv_iload_n hx hb dX9_speaks_1 rfl (lv_at hl 1 rfl) ?_
      refine r_det (r_V cx hw (kX9_isPerson l hl9 g a s m im wa L R rf nu hi lm rn pl sd (nI k)) (cwV 1 hts (lw_V q1257 q1259 qs72 q94 q1260) rfl rfl rfl (by decide +kernel) ⟨Nat.le_of_ble_eq_true rfl, Nat.le_of_ble_eq_true rfl⟩) (r_recv hK hw (k := 0) (ci := 8) rfl rfl) [0, 1, 2, 3, 4, 5, 6, 7, 8] rfl rfl rfl hl.1 rfl (Nat.le_of_ble_eq_true rfl) dX9_speaks_2 ⟨Nat.le_of_ble_eq_true rfl, Nat.le_of_ble_eq_true rfl⟩) cx hw [0, 1, 2, 3, 4, 5, 6, 7, 8] rfl rfl rfl (ws' := WM g a s m im wa L R rf nu hi lm rn pl sd) (rfl) (fun H locs hw => ?_)
      refine W.eq (g2 := F0 m9 5 ls [.int (bI (psB s (nI k)))]) rfl ?_
      refine lv_if_ne (tgt := 14) hx hb dX9_speaks_5 (by decide) (fun c_5 => ?_) (fun c_5 => absurd c_5 (by rw [hps_p]; decide))
      refine lv_aload_n hx hb dX9_speaks_14 rfl (lv_at hl 0 rfl) ?_
      refine r_get cx hw in_X9 0 (ci := 8) (T := TX9) (N := 13) rfl rfl 0 (by decide) q1169 (fun _ h9 => h9) rfl dX9_speaks_15 ?_
      refine lv_iload_n hx hb dX9_speaks_18 rfl (lv_at hl 1 rfl) ?_
      refine lv_iconst (v := 4) hx hb dX9_speaks_19 (by decide) ?_
      refine r_det (r_S cx hw (kX9_of l hl9 g k 4) (va_cwS 2 hts (lw_S q1254 q1255 q94 q1256) rfl rfl rfl (by decide +kernel) ⟨Nat.le_of_ble_eq_true rfl, Nat.le_of_ble_eq_true rfl⟩) [] rfl rfl rfl hl.1 rfl (Nat.le_of_ble_eq_true rfl) dX9_speaks_20 ⟨Nat.le_of_ble_eq_true rfl, Nat.le_of_ble_eq_true rfl⟩) cx hw [] rfl rfl rfl (ws' := WM g a s m im wa L R rf nu hi lm rn pl sd) (rfl) (fun H locs hw => ?_)
      refine W.eq (g2 := F0 m9 23 ls [.int (nI (5 + 7 * k + 4)), .ref (a 1)]) rfl ?_
      refine r_iald cx hw 1 rfl (5 + 7 * k + 4) rfl (by omega) (Nat.le_of_ble_eq_true rfl) dX9_speaks_23 ?_
      refine lv_iconst (v := 1) hx hb dX9_speaks_24 (by decide) ?_
      refine lv_icmp_ne (tgt := 35) hx hb dX9_speaks_25 (by decide) (fun c_9 => ?_) (fun c_9 => absurd c_9 h1)
      refine lv_aload_n hx hb dX9_speaks_35 rfl (lv_at hl 0 rfl) ?_
      refine r_get cx hw in_X9 0 (ci := 8) (T := TX9) (N := 13) rfl rfl 0 (by decide) q1169 (fun _ h9 => h9) rfl dX9_speaks_36 ?_
      refine lv_iload_n hx hb dX9_speaks_39 rfl (lv_at hl 1 rfl) ?_
      refine lv_iconst (v := 4) hx hb dX9_speaks_40 (by decide) ?_
      refine r_det (r_S cx hw (kX9_of l hl9 g k 4) (va_cwS 2 hts (lw_S q1254 q1255 q94 q1256) rfl rfl rfl (by decide +kernel) ⟨Nat.le_of_ble_eq_true rfl, Nat.le_of_ble_eq_true rfl⟩) [] rfl rfl rfl hl.1 rfl (Nat.le_of_ble_eq_true rfl) dX9_speaks_41 ⟨Nat.le_of_ble_eq_true rfl, Nat.le_of_ble_eq_true rfl⟩) cx hw [] rfl rfl rfl (ws' := WM g a s m im wa L R rf nu hi lm rn pl sd) (rfl) (fun H locs hw => ?_)
      refine W.eq (g2 := F0 m9 44 ls [.int (nI (5 + 7 * k + 4)), .ref (a 1)]) rfl ?_
      refine lv_iconst (v := 1) hx hb dX9_speaks_44 (by decide) ?_
      refine r_iast cx hw 1 rfl (5 + 7 * k + 4) rfl (by omega) (Nat.le_of_ble_eq_true rfl) dX9_speaks_45 (fun H locs hw => ?_)
      have hw : WS g A9 s9.heap (WM g a (upd s (5 + 7 * k + 4) 1) m im wa L R rf nu hi lm rn pl sd) H locs := hw
      refine lv_aload_n hx hb dX9_speaks_46 rfl (lv_at hl 0 rfl) ?_
      refine r_get cx hw in_X9 0 (ci := 8) (T := TX9) (N := 13) rfl rfl 0 (by decide) q1169 (fun _ h9 => h9) rfl dX9_speaks_47 ?_
      refine lv_iconst (v := 4) hx hb dX9_speaks_50 (by decide) ?_
      refine r_det (r_S cx hw (kX9_flagged l hl9 g (a 1) (upd s (5 + 7 * k + 4) 1) (hI.same (r' := upd s (5 + 7 * k + 4) 1) (fun q hq => upd_n (hq.2.2 k).2.1)) 4 (by omega)) (va_cwS 2 hts (lw_S q1296 q1297 q94 q1298) rfl rfl rfl (by decide +kernel) ⟨Nat.le_of_ble_eq_true rfl, Nat.le_of_ble_eq_true rfl⟩) [1] rfl rfl rfl hl.1 rfl (Nat.le_of_ble_eq_true rfl) dX9_speaks_51 ⟨Nat.le_of_ble_eq_true rfl, Nat.le_of_ble_eq_true rfl⟩) cx hw [1] rfl rfl rfl (ws' := WM g a (upd s (5 + 7 * k + 4) 1) m im wa L R rf nu hi lm rn pl sd) (rfl) (fun H locs hw => ?_)
      refine W.eq (g2 := F0 m9 54 ls [.int (flgF (upd s (5 + 7 * k + 4) 1) 4)]) rfl ?_
      refine r_det (r_S cx hw (kX9_bits l hl9 g (flgF (upd s (5 + 7 * k + 4) 1) 4)) (va_cwS 1 hts (lw_S q1299 q1300 q94 q1301) rfl rfl rfl (by decide +kernel) ⟨Nat.le_of_ble_eq_true rfl, Nat.le_of_ble_eq_true rfl⟩) [] rfl rfl rfl hl.1 rfl (Nat.le_of_ble_eq_true rfl) dX9_speaks_54 ⟨Nat.le_of_ble_eq_true rfl, Nat.le_of_ble_eq_true rfl⟩) cx hw [] rfl rfl rfl (ws' := WM g a (upd s (5 + 7 * k + 4) 1) m im wa L R rf nu hi lm rn pl sd) (rfl) (fun H locs hw => ?_)
      refine W.eq (g2 := F0 m9 57 ls [.int (bitsF (flgF (upd s (5 + 7 * k + 4) 1) 4))]) rfl ?_
      exact r_iret cx hw (⟨_, by rw [hW, ans_0]; rw [vSpk, sSpk, ek], by rw [hW, rfA_0, sA_0, sSpk, ek]⟩) (Nat.le_of_ble_eq_true rfl) (Nat.le_of_ble_eq_true rfl) dX9_speaks_57
  · skip
    have hps_p : psB s p = false := by simpa using hps_p
    have hW : wSpk s p = -1 := by simp [wSpk, hps_p]
    have hne : ¬ wSpk s p = 0 := by rw [hW]; decide
    refine MC.of (by decide) (Nat.le_of_ble_eq_true rfl) ?_
    intro p9 e9 s9 m9 args9 below9 meth9 c9 A9 ls cx htab hw hl
    have hx := cx.1
    have hb := cx.2.1
    have hts := cx.2.2.2.2.1
    have hK := cx.2.2.2.2.2.2.2.1
    have hl : lv_has ls 2 [(0, .ref (a 0)), (1, .int p)] := hl
    refine lv_aload_n hx hb dX9_speaks_0 rfl (lv_at hl 0 rfl) ?_
    refine lv_iload_n hx hb dX9_speaks_1 rfl (lv_at hl 1 rfl) ?_
    refine r_det (r_V cx hw (kX9_isPerson l hl9 g a s m im wa L R rf nu hi lm rn pl sd p) (cwV 1 hts (lw_V q1257 q1259 qs72 q94 q1260) rfl rfl rfl (by decide +kernel) ⟨Nat.le_of_ble_eq_true rfl, Nat.le_of_ble_eq_true rfl⟩) (r_recv hK hw (k := 0) (ci := 8) rfl rfl) [0, 1, 2, 3, 4, 5, 6, 7, 8] rfl rfl rfl hl.1 rfl (Nat.le_of_ble_eq_true rfl) dX9_speaks_2 ⟨Nat.le_of_ble_eq_true rfl, Nat.le_of_ble_eq_true rfl⟩) cx hw [0, 1, 2, 3, 4, 5, 6, 7, 8] rfl rfl rfl (ws' := WM g a s m im wa L R rf nu hi lm rn pl sd) (rfl) (fun H locs hw => ?_)
    refine W.eq (g2 := F0 m9 5 ls [.int (bI (psB s p))]) rfl ?_
    refine lv_if_ne (tgt := 14) hx hb dX9_speaks_5 (by decide) (fun c_5 => absurd c_5 (by rw [hps_p]; decide)) (fun c_5 => ?_)
    refine lv_aload_n hx hb dX9_speaks_8 rfl (lv_at hl 0 rfl) ?_
    refine lv_iconst (v := (-1)) hx hb dX9_speaks_9 (by decide) ?_
    refine r_det (r_V cx hw (kX9_no l hl9 g a s m im wa L R rf nu hi lm rn pl sd (-1) (by unfold okC; decide)) (cwV 1 hts (lw_V q1213 q1215 qs65 q94 q1216) rfl rfl rfl (by decide +kernel) ⟨Nat.le_of_ble_eq_true rfl, Nat.le_of_ble_eq_true rfl⟩) (r_recv hK hw (k := 0) (ci := 8) rfl rfl) [0, 1, 2, 3, 4, 5, 6, 7, 8] rfl rfl rfl hl.1 rfl (Nat.le_of_ble_eq_true rfl) dX9_speaks_10 ⟨Nat.le_of_ble_eq_true rfl, Nat.le_of_ble_eq_true rfl⟩) cx hw [0, 1, 2, 3, 4, 5, 6, 7, 8] rfl rfl rfl (ws' := WM g a s m im wa L R (rfU rf (-1)) nu hi lm rn pl sd) (rfl) (fun H locs hw => ?_)
    refine W.eq (g2 := F0 m9 13 ls [.int (-1)]) rfl ?_
    exact r_iret cx hw (⟨_, by rw [ans_n hne, hW], by rw [rfA_n hne, sA_n hne, hW]⟩) (Nat.le_of_ble_eq_true rfl) (Nat.le_of_ble_eq_true rfl) dX9_speaks_13

set_option maxHeartbeats 4000000 in
set_option maxRecDepth 100000 in
theorem kX9_befriends (l : Launch) (hl9 : l.stackTraces = false) (g : GG) (a : Nat → Nat) (s m im wa L R rf nu : Nat → Int32) (hi lm rn pl sd : Int32) (hI : InvM s) (p f : Int32) : MC l yX9_befriends cX9_befriends 3 (some .int) 2 43 0 0 g [.ref (a 0), .int p, .int f] (WM g a s m im wa L R rf nu hi lm rn pl sd) (rtE (α := Nat → Int32) (some (.int (ans (wBfr s p f) (vOf s p 6)))) (fun x9 => WM g a (sA (wBfr s p f) (sOf s p 6 f) s) x9 im wa L R (rfA (wBfr s p f) rf) nu hi lm rn pl sd)) (noX) := by
  by_cases hps_p : psB s p = true
  · skip
    obtain ⟨k, hk, rfl⟩ := psB_rng hI hps_p
    have hN := hI.1
    have ek : tN (nI k) = k := tN_nI (by omega)
    by_cases hin_f : isInB f 0 5 = true
    · skip
      have hW : wBfr s (nI k) f = 0 := by simp [wBfr, hps_p, hin_f]
      refine MC.of (by decide) (Nat.le_of_ble_eq_true rfl) ?_
      intro p9 e9 s9 m9 args9 below9 meth9 c9 A9 ls cx htab hw hl
      have hx := cx.1
      have hb := cx.2.1
      have hts := cx.2.2.2.2.1
      have hK := cx.2.2.2.2.2.2.2.1
      have hl : lv_has ls 3 [(0, .ref (a 0)), (1, .int (nI k)), (2, .int f)] := hl
      refine lv_aload_n hx hb dX9_befriends_0 rfl (lv_at hl 0 rfl) ?_
      refine lv_iload_n hx hb dX9_befriends_1 rfl (lv_at hl 1 rfl) ?_
      refine r_det (r_V cx hw (kX9_isPerson l hl9 g a s m im wa L R rf nu hi lm rn pl sd (nI k)) (cwV 1 hts (lw_V q1257 q1259 qs72 q94 q1260) rfl rfl rfl (by decide +kernel) ⟨Nat.le_of_ble_eq_true rfl, Nat.le_of_ble_eq_true rfl⟩) (r_recv hK hw (k := 0) (ci := 8) rfl rfl) [0, 1, 2, 3, 4, 5, 6, 7, 8] rfl rfl rfl hl.1 rfl (Nat.le_of_ble_eq_true rfl) dX9_befriends_2 ⟨Nat.le_of_ble_eq_true rfl, Nat.le_of_ble_eq_true rfl⟩) cx hw [0, 1, 2, 3, 4, 5, 6, 7, 8] rfl rfl rfl (ws' := WM g a s m im wa L R rf nu hi lm rn pl sd) (rfl) (fun H locs hw => ?_)
      refine W.eq (g2 := F0 m9 5 ls [.int (bI (psB s (nI k)))]) rfl ?_
      refine lv_if_eq (tgt := 31) hx hb dX9_befriends_5 (by decide) (fun c_5 => absurd c_5 (by rw [hps_p]; decide)) (fun c_5 => ?_)
      refine lv_iload_n hx hb dX9_befriends_8 rfl (lv_at hl 2 rfl) ?_
      refine lv_iconst (v := 0) hx hb dX9_befriends_9 (by decide) ?_
      refine lv_iconst (v := 5) hx hb dX9_befriends_10 (by decide) ?_
      refine r_det (r_S cx hw (kX9_isIn l hl9 g f 0 5) (va_cwS 3 hts (lw_S q1240 q1241 q94 q1242) rfl rfl rfl (by decide +kernel) ⟨Nat.le_of_ble_eq_true rfl, Nat.le_of_ble_eq_true rfl⟩) [] rfl rfl rfl hl.1 rfl (Nat.le_of_ble_eq_true rfl) dX9_befriends_11 ⟨Nat.le_of_ble_eq_true rfl, Nat.le_of_ble_eq_true rfl⟩) cx hw [] rfl rfl rfl (ws' := WM g a s m im wa L R rf nu hi lm rn pl sd) (rfl) (fun H locs hw => ?_)
      refine W.eq (g2 := F0 m9 14 ls [.int (bI (isInB f 0 5))]) rfl ?_
      refine lv_if_eq (tgt := 31) hx hb dX9_befriends_14 (by decide) (fun c_14 => absurd c_14 (by rw [hin_f]; decide)) (fun c_14 => ?_)
      refine lv_aload_n hx hb dX9_befriends_17 rfl (lv_at hl 0 rfl) ?_
      refine lv_iload_n hx hb dX9_befriends_18 rfl (lv_at hl 1 rfl) ?_
      refine lv_bipush (v := 6) hx hb dX9_befriends_19 (by decide) ?_
      refine r_det (r_S cx hw (kX9_of l hl9 g k 6) (va_cwS 2 hts (lw_S q1254 q1255 q94 q1256) rfl rfl rfl (by decide +kernel) ⟨Nat.le_of_ble_eq_true rfl, Nat.le_of_ble_eq_true rfl⟩) [] rfl rfl rfl hl.1 rfl (Nat.le_of_ble_eq_true rfl) dX9_befriends_21 ⟨Nat.le_of_ble_eq_true rfl, Nat.le_of_ble_eq_true rfl⟩) cx hw [] rfl rfl rfl (ws' := WM g a s m im wa L R rf nu hi lm rn pl sd) (rfl) (fun H locs hw => ?_)
      refine W.eq (g2 := F0 m9 24 ls [.int (nI (5 + 7 * k + 6)), .ref (a 0)]) rfl ?_
      refine lv_iload_n hx hb dX9_befriends_24 rfl (lv_at hl 2 rfl) ?_
      refine r_det (r_V cx hw (kX9_sets l hl9 g a s m im wa L R rf nu hi lm rn pl sd (5 + 7 * k + 6) (by omega) f) (cwV 2 hts (lw_V q1306 q1308 qs73 q94 q1309) rfl rfl rfl (by decide +kernel) ⟨Nat.le_of_ble_eq_true rfl, Nat.le_of_ble_eq_true rfl⟩) (r_recv hK hw (k := 0) (ci := 8) rfl rfl) [0, 1, 2, 3, 4, 5, 6, 7, 8] rfl rfl rfl hl.1 rfl (Nat.le_of_ble_eq_true rfl) dX9_befriends_25 ⟨Nat.le_of_ble_eq_true rfl, Nat.le_of_ble_eq_true rfl⟩) cx hw [0, 1, 2, 3, 4, 5, 6, 7, 8] rfl rfl rfl (ws' := WM g a (upd s (5 + 7 * k + 6) f) m im wa L R rf nu hi lm rn pl sd) (rfl) (fun H locs hw => ?_)
      refine W.eq (g2 := F0 m9 28 ls [.int (s (5 + 7 * k + 6))]) rfl ?_
      refine lv_goto (tgt := 36) hx hb dX9_befriends_28 (by decide) ?_
      exact r_iret cx hw (⟨_, by rw [hW, ans_0]; rw [vOf, ek], by rw [hW, rfA_0, sA_0, sOf, ek]⟩) (Nat.le_of_ble_eq_true rfl) (Nat.le_of_ble_eq_true rfl) dX9_befriends_36
    · skip
      have hin_f : isInB f 0 5 = false := by simpa using hin_f
      have hW : wBfr s (nI k) f = -1 := by simp [wBfr, hps_p, hin_f]
      have hne : ¬ wBfr s (nI k) f = 0 := by rw [hW]; decide
      refine MC.of (by decide) (Nat.le_of_ble_eq_true rfl) ?_
      intro p9 e9 s9 m9 args9 below9 meth9 c9 A9 ls cx htab hw hl
      have hx := cx.1
      have hb := cx.2.1
      have hts := cx.2.2.2.2.1
      have hK := cx.2.2.2.2.2.2.2.1
      have hl : lv_has ls 3 [(0, .ref (a 0)), (1, .int (nI k)), (2, .int f)] := hl
      refine lv_aload_n hx hb dX9_befriends_0 rfl (lv_at hl 0 rfl) ?_
      refine lv_iload_n hx hb dX9_befriends_1 rfl (lv_at hl 1 rfl) ?_
      refine r_det (r_V cx hw (kX9_isPerson l hl9 g a s m im wa L R rf nu hi lm rn pl sd (nI k)) (cwV 1 hts (lw_V q1257 q1259 qs72 q94 q1260) rfl rfl rfl (by decide +kernel) ⟨Nat.le_of_ble_eq_true rfl, Nat.le_of_ble_eq_true rfl⟩) (r_recv hK hw (k := 0) (ci := 8) rfl rfl) [0, 1, 2, 3, 4, 5, 6, 7, 8] rfl rfl rfl hl.1 rfl (Nat.le_of_ble_eq_true rfl) dX9_befriends_2 ⟨Nat.le_of_ble_eq_true rfl, Nat.le_of_ble_eq_true rfl⟩) cx hw [0, 1, 2, 3, 4, 5, 6, 7, 8] rfl rfl rfl (ws' := WM g a s m im wa L R rf nu hi lm rn pl sd) (rfl) (fun H locs hw => ?_)
      refine W.eq (g2 := F0 m9 5 ls [.int (bI (psB s (nI k)))]) rfl ?_
      refine lv_if_eq (tgt := 31) hx hb dX9_befriends_5 (by decide) (fun c_5 => absurd c_5 (by rw [hps_p]; decide)) (fun c_5 => ?_)
      refine lv_iload_n hx hb dX9_befriends_8 rfl (lv_at hl 2 rfl) ?_
      refine lv_iconst (v := 0) hx hb dX9_befriends_9 (by decide) ?_
      refine lv_iconst (v := 5) hx hb dX9_befriends_10 (by decide) ?_
      refine r_det (r_S cx hw (kX9_isIn l hl9 g f 0 5) (va_cwS 3 hts (lw_S q1240 q1241 q94 q1242) rfl rfl rfl (by decide +kernel) ⟨Nat.le_of_ble_eq_true rfl, Nat.le_of_ble_eq_true rfl⟩) [] rfl rfl rfl hl.1 rfl (Nat.le_of_ble_eq_true rfl) dX9_befriends_11 ⟨Nat.le_of_ble_eq_true rfl, Nat.le_of_ble_eq_true rfl⟩) cx hw [] rfl rfl rfl (ws' := WM g a s m im wa L R rf nu hi lm rn pl sd) (rfl) (fun H locs hw => ?_)
      refine W.eq (g2 := F0 m9 14 ls [.int (bI (isInB f 0 5))]) rfl ?_
      refine lv_if_eq (tgt := 31) hx hb dX9_befriends_14 (by decide) (fun c_14 => ?_) (fun c_14 => absurd c_14 (by rw [hin_f]; decide))
      refine lv_aload_n hx hb dX9_befriends_31 rfl (lv_at hl 0 rfl) ?_
      refine lv_iconst (v := (-1)) hx hb dX9_befriends_32 (by decide) ?_
      refine r_det (r_V cx hw (kX9_no l hl9 g a s m im wa L R rf nu hi lm rn pl sd (-1) (by unfold okC; decide)) (cwV 1 hts (lw_V q1213 q1215 qs65 q94 q1216) rfl rfl rfl (by decide +kernel) ⟨Nat.le_of_ble_eq_true rfl, Nat.le_of_ble_eq_true rfl⟩) (r_recv hK hw (k := 0) (ci := 8) rfl rfl) [0, 1, 2, 3, 4, 5, 6, 7, 8] rfl rfl rfl hl.1 rfl (Nat.le_of_ble_eq_true rfl) dX9_befriends_33 ⟨Nat.le_of_ble_eq_true rfl, Nat.le_of_ble_eq_true rfl⟩) cx hw [0, 1, 2, 3, 4, 5, 6, 7, 8] rfl rfl rfl (ws' := WM g a s m im wa L R (rfU rf (-1)) nu hi lm rn pl sd) (rfl) (fun H locs hw => ?_)
      refine W.eq (g2 := F0 m9 36 ls [.int (-1)]) rfl ?_
      exact r_iret cx hw (⟨_, by rw [ans_n hne, hW], by rw [rfA_n hne, sA_n hne, hW]⟩) (Nat.le_of_ble_eq_true rfl) (Nat.le_of_ble_eq_true rfl) dX9_befriends_36
  · skip
    have hps_p : psB s p = false := by simpa using hps_p
    have hW : wBfr s p f = -1 := by simp [wBfr, hps_p]
    have hne : ¬ wBfr s p f = 0 := by rw [hW]; decide
    refine MC.of (by decide) (Nat.le_of_ble_eq_true rfl) ?_
    intro p9 e9 s9 m9 args9 below9 meth9 c9 A9 ls cx htab hw hl
    have hx := cx.1
    have hb := cx.2.1
    have hts := cx.2.2.2.2.1
    have hK := cx.2.2.2.2.2.2.2.1
    have hl : lv_has ls 3 [(0, .ref (a 0)), (1, .int p), (2, .int f)] := hl
    refine lv_aload_n hx hb dX9_befriends_0 rfl (lv_at hl 0 rfl) ?_
    refine lv_iload_n hx hb dX9_befriends_1 rfl (lv_at hl 1 rfl) ?_
    refine r_det (r_V cx hw (kX9_isPerson l hl9 g a s m im wa L R rf nu hi lm rn pl sd p) (cwV 1 hts (lw_V q1257 q1259 qs72 q94 q1260) rfl rfl rfl (by decide +kernel) ⟨Nat.le_of_ble_eq_true rfl, Nat.le_of_ble_eq_true rfl⟩) (r_recv hK hw (k := 0) (ci := 8) rfl rfl) [0, 1, 2, 3, 4, 5, 6, 7, 8] rfl rfl rfl hl.1 rfl (Nat.le_of_ble_eq_true rfl) dX9_befriends_2 ⟨Nat.le_of_ble_eq_true rfl, Nat.le_of_ble_eq_true rfl⟩) cx hw [0, 1, 2, 3, 4, 5, 6, 7, 8] rfl rfl rfl (ws' := WM g a s m im wa L R rf nu hi lm rn pl sd) (rfl) (fun H locs hw => ?_)
    refine W.eq (g2 := F0 m9 5 ls [.int (bI (psB s p))]) rfl ?_
    refine lv_if_eq (tgt := 31) hx hb dX9_befriends_5 (by decide) (fun c_5 => ?_) (fun c_5 => absurd c_5 (by rw [hps_p]; decide))
    refine lv_aload_n hx hb dX9_befriends_31 rfl (lv_at hl 0 rfl) ?_
    refine lv_iconst (v := (-1)) hx hb dX9_befriends_32 (by decide) ?_
    refine r_det (r_V cx hw (kX9_no l hl9 g a s m im wa L R rf nu hi lm rn pl sd (-1) (by unfold okC; decide)) (cwV 1 hts (lw_V q1213 q1215 qs65 q94 q1216) rfl rfl rfl (by decide +kernel) ⟨Nat.le_of_ble_eq_true rfl, Nat.le_of_ble_eq_true rfl⟩) (r_recv hK hw (k := 0) (ci := 8) rfl rfl) [0, 1, 2, 3, 4, 5, 6, 7, 8] rfl rfl rfl hl.1 rfl (Nat.le_of_ble_eq_true rfl) dX9_befriends_33 ⟨Nat.le_of_ble_eq_true rfl, Nat.le_of_ble_eq_true rfl⟩) cx hw [0, 1, 2, 3, 4, 5, 6, 7, 8] rfl rfl rfl (ws' := WM g a s m im wa L R (rfU rf (-1)) nu hi lm rn pl sd) (rfl) (fun H locs hw => ?_)
    refine W.eq (g2 := F0 m9 36 ls [.int (-1)]) rfl ?_
    exact r_iret cx hw (⟨_, by rw [ans_n hne, hW], by rw [rfA_n hne, sA_n hne, hW]⟩) (Nat.le_of_ble_eq_true rfl) (Nat.le_of_ble_eq_true rfl) dX9_befriends_36

set_option maxHeartbeats 4000000 in
set_option maxRecDepth 100000 in
theorem kX9_setsOf (l : Launch) (hl9 : l.stackTraces = false) (g : GG) (a : Nat → Nat) (s m im wa L R rf nu : Nat → Int32) (hi lm rn pl sd : Int32) (hI : InvM s) (p : Int32)(w : Nat) (hw9 : w < 7) (v M : Int32) : MC l yX9_setsOf cX9_setsOf 6 (some .int) 2 43 0 0 g [.ref (a 0), .int p, .int (nI w), .int v, .int M] (WM g a s m im wa L R rf nu hi lm rn pl sd) (rtE (α := Nat → Int32) (some (.int (ans (wOf s p v M) (vOf s p w)))) (fun x9 => WM g a (sA (wOf s p v M) (sOf s p w v) s) x9 im wa L R (rfA (wOf s p v M) rf) nu hi lm rn pl sd)) (noX) := by
  by_cases hps_p : psB s p = true
  · skip
    obtain ⟨k, hk, rfl⟩ := psB_rng hI hps_p
    have hN := hI.1
    have ek : tN (nI k) = k := tN_nI (by omega)
    by_cases hwr : wrF v 0 M = 0
    · skip
      have hW : wOf s (nI k) v M = 0 := by simp [wOf, hps_p, hwr]
      refine MC.of (by decide) (Nat.le_of_ble_eq_true rfl) ?_
      intro p9 e9 s9 m9 args9 below9 meth9 c9 A9 ls cx htab hw hl
      have hx := cx.1
      have hb := cx.2.1
      have hts := cx.2.2.2.2.1
      have hK := cx.2.2.2.2.2.2.2.1
      have hl : lv_has ls 6 [(0, .ref (a 0)), (1, .int (nI k)), (2, .int (nI w)), (3, .int v), (4, .int M)] := hl
      refine lv_aload_n hx hb dX9_setsOf_0 rfl (lv_at hl 0 rfl) ?_
      refine lv_iload_n hx hb dX9_setsOf_1 rfl (lv_at hl 1 rfl) ?_
      refine r_det (r_V cx hw (kX9_isPerson l hl9 g a s m im wa L R rf nu hi lm rn pl sd (nI k)) (cwV 1 hts (lw_V q1257 q1259 qs72 q94 q1260) rfl rfl rfl (by decide +kernel) ⟨Nat.le_of_ble_eq_true rfl, Nat.le_of_ble_eq_true rfl⟩) (r_recv hK hw (k := 0) (ci := 8) rfl rfl) [0, 1, 2, 3, 4, 5, 6, 7, 8] rfl rfl rfl hl.1 rfl (Nat.le_of_ble_eq_true rfl) dX9_setsOf_2 ⟨Nat.le_of_ble_eq_true rfl, Nat.le_of_ble_eq_true rfl⟩) cx hw [0, 1, 2, 3, 4, 5, 6, 7, 8] rfl rfl rfl (ws' := WM g a s m im wa L R rf nu hi lm rn pl sd) (rfl) (fun H locs hw => ?_)
      refine W.eq (g2 := F0 m9 5 ls [.int (bI (psB s (nI k)))]) rfl ?_
      refine lv_if_eq (tgt := 18) hx hb dX9_setsOf_5 (by decide) (fun c_5 => absurd c_5 (by rw [hps_p]; decide)) (fun c_5 => ?_)
      refine lv_iload_n hx hb dX9_setsOf_8 rfl (lv_at hl 3 rfl) ?_
      refine lv_iconst (v := 0) hx hb dX9_setsOf_9 (by decide) ?_
      refine lv_iload hx hb dX9_setsOf_10 (lv_at hl 4 rfl) ?_
      refine r_det (r_S cx hw (kX9_wrongBy l hl9 g v 0 M) (va_cwS 3 hts (lw_S q1318 q1319 q94 q1320) rfl rfl rfl (by decide +kernel) ⟨Nat.le_of_ble_eq_true rfl, Nat.le_of_ble_eq_true rfl⟩) [] rfl rfl rfl hl.1 rfl (Nat.le_of_ble_eq_true rfl) dX9_setsOf_12 ⟨Nat.le_of_ble_eq_true rfl, Nat.le_of_ble_eq_true rfl⟩) cx hw [] rfl rfl rfl (ws' := WM g a s m im wa L R rf nu hi lm rn pl sd) (rfl) (fun H locs hw => ?_)
      refine W.eq (g2 := F0 m9 15 ls [.int (wrF v 0 M)]) rfl ?_
      refine lv_goto (tgt := 19) hx hb dX9_setsOf_15 (by decide) ?_
      refine lv_istore (lv' := [(5, .int (wrF v 0 M)), (0, .ref (a 0)), (1, .int (nI k)), (2, .int (nI w)), (3, .int v), (4, .int M)]) hx hb dX9_setsOf_19 hl (by decide) rfl (fun ls hl => ?_)
      refine lv_iload hx hb dX9_setsOf_21 (lv_at hl 0 rfl) ?_
      refine lv_if_eq (tgt := 35) hx hb dX9_setsOf_23 (by decide) (fun c_23 => ?_) (fun c_23 => absurd hwr c_23)
      refine lv_aload_n hx hb dX9_setsOf_35 rfl (lv_at hl 1 rfl) ?_
      refine lv_iload_n hx hb dX9_setsOf_36 rfl (lv_at hl 2 rfl) ?_
      refine lv_iload_n hx hb dX9_setsOf_37 rfl (lv_at hl 3 rfl) ?_
      refine r_det (r_S cx hw (kX9_of l hl9 g k w) (va_cwS 2 hts (lw_S q1254 q1255 q94 q1256) rfl rfl rfl (by decide +kernel) ⟨Nat.le_of_ble_eq_true rfl, Nat.le_of_ble_eq_true rfl⟩) [] rfl rfl rfl hl.1 rfl (Nat.le_of_ble_eq_true rfl) dX9_setsOf_38 ⟨Nat.le_of_ble_eq_true rfl, Nat.le_of_ble_eq_true rfl⟩) cx hw [] rfl rfl rfl (ws' := WM g a s m im wa L R rf nu hi lm rn pl sd) (rfl) (fun H locs hw => ?_)
      refine W.eq (g2 := F0 m9 41 ls [.int (nI (5 + 7 * k + w)), .ref (a 0)]) rfl ?_
      refine lv_iload_n hx hb dX9_setsOf_41 rfl (lv_at hl 4 rfl) ?_
      refine r_det (r_V cx hw (kX9_sets l hl9 g a s m im wa L R rf nu hi lm rn pl sd (5 + 7 * k + w) (by omega) v) (cwV 2 hts (lw_V q1306 q1308 qs73 q94 q1309) rfl rfl rfl (by decide +kernel) ⟨Nat.le_of_ble_eq_true rfl, Nat.le_of_ble_eq_true rfl⟩) (r_recv hK hw (k := 0) (ci := 8) rfl rfl) [0, 1, 2, 3, 4, 5, 6, 7, 8] rfl rfl rfl hl.1 rfl (Nat.le_of_ble_eq_true rfl) dX9_setsOf_42 ⟨Nat.le_of_ble_eq_true rfl, Nat.le_of_ble_eq_true rfl⟩) cx hw [0, 1, 2, 3, 4, 5, 6, 7, 8] rfl rfl rfl (ws' := WM g a (upd s (5 + 7 * k + w) v) m im wa L R rf nu hi lm rn pl sd) (rfl) (fun H locs hw => ?_)
      refine W.eq (g2 := F0 m9 45 ls [.int (s (5 + 7 * k + w))]) rfl ?_
      exact r_iret cx hw (⟨_, by rw [hW, ans_0]; rw [vOf, ek], by rw [hW, rfA_0, sA_0, sOf, ek]⟩) (Nat.le_of_ble_eq_true rfl) (Nat.le_of_ble_eq_true rfl) dX9_setsOf_45
    · skip
      have hW : wOf s (nI k) v M = wrF v 0 M := by simp [wOf, hps_p]
      have hne : ¬ wOf s (nI k) v M = 0 := by rw [hW]; exact hwr
      refine MC.of (by decide) (Nat.le_of_ble_eq_true rfl) ?_
      intro p9 e9 s9 m9 args9 below9 meth9 c9 A9 ls cx htab hw hl
      have hx := cx.1
      have hb := cx.2.1
      have hts := cx.2.2.2.2.1
      have hK := cx.2.2.2.2.2.2.2.1
      have hl : lv_has ls 6 [(0, .ref (a 0)), (1, .int (nI k)), (2, .int (nI w)), (3, .int v), (4, .int M)] := hl
      refine lv_aload_n hx hb dX9_setsOf_0 rfl (lv_at hl 0 rfl) ?_
      refine lv_iload_n hx hb dX9_setsOf_1 rfl (lv_at hl 1 rfl) ?_
      refine r_det (r_V cx hw (kX9_isPerson l hl9 g a s m im wa L R rf nu hi lm rn pl sd (nI k)) (cwV 1 hts (lw_V q1257 q1259 qs72 q94 q1260) rfl rfl rfl (by decide +kernel) ⟨Nat.le_of_ble_eq_true rfl, Nat.le_of_ble_eq_true rfl⟩) (r_recv hK hw (k := 0) (ci := 8) rfl rfl) [0, 1, 2, 3, 4, 5, 6, 7, 8] rfl rfl rfl hl.1 rfl (Nat.le_of_ble_eq_true rfl) dX9_setsOf_2 ⟨Nat.le_of_ble_eq_true rfl, Nat.le_of_ble_eq_true rfl⟩) cx hw [0, 1, 2, 3, 4, 5, 6, 7, 8] rfl rfl rfl (ws' := WM g a s m im wa L R rf nu hi lm rn pl sd) (rfl) (fun H locs hw => ?_)
      refine W.eq (g2 := F0 m9 5 ls [.int (bI (psB s (nI k)))]) rfl ?_
      refine lv_if_eq (tgt := 18) hx hb dX9_setsOf_5 (by decide) (fun c_5 => absurd c_5 (by rw [hps_p]; decide)) (fun c_5 => ?_)
      refine lv_iload_n hx hb dX9_setsOf_8 rfl (lv_at hl 3 rfl) ?_
      refine lv_iconst (v := 0) hx hb dX9_setsOf_9 (by decide) ?_
      refine lv_iload hx hb dX9_setsOf_10 (lv_at hl 4 rfl) ?_
      refine r_det (r_S cx hw (kX9_wrongBy l hl9 g v 0 M) (va_cwS 3 hts (lw_S q1318 q1319 q94 q1320) rfl rfl rfl (by decide +kernel) ⟨Nat.le_of_ble_eq_true rfl, Nat.le_of_ble_eq_true rfl⟩) [] rfl rfl rfl hl.1 rfl (Nat.le_of_ble_eq_true rfl) dX9_setsOf_12 ⟨Nat.le_of_ble_eq_true rfl, Nat.le_of_ble_eq_true rfl⟩) cx hw [] rfl rfl rfl (ws' := WM g a s m im wa L R rf nu hi lm rn pl sd) (rfl) (fun H locs hw => ?_)
      refine W.eq (g2 := F0 m9 15 ls [.int (wrF v 0 M)]) rfl ?_
      refine lv_goto (tgt := 19) hx hb dX9_setsOf_15 (by decide) ?_
      refine lv_istore (lv' := [(5, .int (wrF v 0 M)), (0, .ref (a 0)), (1, .int (nI k)), (2, .int (nI w)), (3, .int v), (4, .int M)]) hx hb dX9_setsOf_19 hl (by decide) rfl (fun ls hl => ?_)
      refine lv_iload hx hb dX9_setsOf_21 (lv_at hl 0 rfl) ?_
      refine lv_if_eq (tgt := 35) hx hb dX9_setsOf_23 (by decide) (fun c_23 => absurd c_23 hwr) (fun c_23 => ?_)
      refine lv_aload_n hx hb dX9_setsOf_26 rfl (lv_at hl 1 rfl) ?_
      refine lv_iload hx hb dX9_setsOf_27 (lv_at hl 0 rfl) ?_
      refine r_det (r_V cx hw (kX9_no l hl9 g a s m im wa L R rf nu hi lm rn pl sd (wrF v 0 M) (wrF_ok hwr)) (cwV 1 hts (lw_V q1213 q1215 qs65 q94 q1216) rfl rfl rfl (by decide +kernel) ⟨Nat.le_of_ble_eq_true rfl, Nat.le_of_ble_eq_true rfl⟩) (r_recv hK hw (k := 0) (ci := 8) rfl rfl) [0, 1, 2, 3, 4, 5, 6, 7, 8] rfl rfl rfl hl.1 rfl (Nat.le_of_ble_eq_true rfl) dX9_setsOf_29 ⟨Nat.le_of_ble_eq_true rfl, Nat.le_of_ble_eq_true rfl⟩) cx hw [0, 1, 2, 3, 4, 5, 6, 7, 8] rfl rfl rfl (ws' := WM g a s m im wa L R (rfU rf (wrF v 0 M)) nu hi lm rn pl sd) (rfl) (fun H locs hw => ?_)
      refine W.eq (g2 := F0 m9 32 ls [.int (wrF v 0 M)]) rfl ?_
      refine lv_goto (tgt := 45) hx hb dX9_setsOf_32 (by decide) ?_
      exact r_iret cx hw (⟨_, by rw [ans_n hne, hW], by rw [rfA_n hne, sA_n hne, hW]⟩) (Nat.le_of_ble_eq_true rfl) (Nat.le_of_ble_eq_true rfl) dX9_setsOf_45
  · skip
    have hps_p : psB s p = false := by simpa using hps_p
    have hW : wOf s p v M = -1 := by simp [wOf, hps_p]
    have hne : ¬ wOf s p v M = 0 := by rw [hW]; decide
    refine MC.of (by decide) (Nat.le_of_ble_eq_true rfl) ?_
    intro p9 e9 s9 m9 args9 below9 meth9 c9 A9 ls cx htab hw hl
    have hx := cx.1
    have hb := cx.2.1
    have hts := cx.2.2.2.2.1
    have hK := cx.2.2.2.2.2.2.2.1
    have hl : lv_has ls 6 [(0, .ref (a 0)), (1, .int p), (2, .int (nI w)), (3, .int v), (4, .int M)] := hl
    refine lv_aload_n hx hb dX9_setsOf_0 rfl (lv_at hl 0 rfl) ?_
    refine lv_iload_n hx hb dX9_setsOf_1 rfl (lv_at hl 1 rfl) ?_
    refine r_det (r_V cx hw (kX9_isPerson l hl9 g a s m im wa L R rf nu hi lm rn pl sd p) (cwV 1 hts (lw_V q1257 q1259 qs72 q94 q1260) rfl rfl rfl (by decide +kernel) ⟨Nat.le_of_ble_eq_true rfl, Nat.le_of_ble_eq_true rfl⟩) (r_recv hK hw (k := 0) (ci := 8) rfl rfl) [0, 1, 2, 3, 4, 5, 6, 7, 8] rfl rfl rfl hl.1 rfl (Nat.le_of_ble_eq_true rfl) dX9_setsOf_2 ⟨Nat.le_of_ble_eq_true rfl, Nat.le_of_ble_eq_true rfl⟩) cx hw [0, 1, 2, 3, 4, 5, 6, 7, 8] rfl rfl rfl (ws' := WM g a s m im wa L R rf nu hi lm rn pl sd) (rfl) (fun H locs hw => ?_)
    refine W.eq (g2 := F0 m9 5 ls [.int (bI (psB s p))]) rfl ?_
    refine lv_if_eq (tgt := 18) hx hb dX9_setsOf_5 (by decide) (fun c_5 => ?_) (fun c_5 => absurd c_5 (by rw [hps_p]; decide))
    refine lv_iconst (v := (-1)) hx hb dX9_setsOf_18 (by decide) ?_
    refine lv_istore (lv' := [(5, .int (-1)), (0, .ref (a 0)), (1, .int p), (2, .int (nI w)), (3, .int v), (4, .int M)]) hx hb dX9_setsOf_19 hl (by decide) rfl (fun ls hl => ?_)
    refine lv_iload hx hb dX9_setsOf_21 (lv_at hl 0 rfl) ?_
    refine lv_if_eq (tgt := 35) hx hb dX9_setsOf_23 (by decide) (fun c_23 => absurd c_23 (by decide)) (fun c_23 => ?_)
    refine lv_aload_n hx hb dX9_setsOf_26 rfl (lv_at hl 1 rfl) ?_
    refine lv_iload hx hb dX9_setsOf_27 (lv_at hl 0 rfl) ?_
    refine r_det (r_V cx hw (kX9_no l hl9 g a s m im wa L R rf nu hi lm rn pl sd (-1) (by unfold okC; decide)) (cwV 1 hts (lw_V q1213 q1215 qs65 q94 q1216) rfl rfl rfl (by decide +kernel) ⟨Nat.le_of_ble_eq_true rfl, Nat.le_of_ble_eq_true rfl⟩) (r_recv hK hw (k := 0) (ci := 8) rfl rfl) [0, 1, 2, 3, 4, 5, 6, 7, 8] rfl rfl rfl hl.1 rfl (Nat.le_of_ble_eq_true rfl) dX9_setsOf_29 ⟨Nat.le_of_ble_eq_true rfl, Nat.le_of_ble_eq_true rfl⟩) cx hw [0, 1, 2, 3, 4, 5, 6, 7, 8] rfl rfl rfl (ws' := WM g a s m im wa L R (rfU rf (-1)) nu hi lm rn pl sd) (rfl) (fun H locs hw => ?_)
    refine W.eq (g2 := F0 m9 32 ls [.int (-1)]) rfl ?_
    refine lv_goto (tgt := 45) hx hb dX9_setsOf_32 (by decide) ?_
    exact r_iret cx hw (⟨_, by rw [ans_n hne, hW], by rw [rfA_n hne, sA_n hne, hW]⟩) (Nat.le_of_ble_eq_true rfl) (Nat.le_of_ble_eq_true rfl) dX9_setsOf_45

set_option maxHeartbeats 4000000 in
set_option maxRecDepth 100000 in
theorem kX9_pours (l : Launch) (hl9 : l.stackTraces = false) (g : GG) (a : Nat → Nat) (s m im wa L R rf nu : Nat → Int32) (hi lm rn pl sd : Int32) (hI : InvM s) (p v : Int32) : MC l yX9_pours cX9_pours 3 (some .int) 3 68 0 0 g [.ref (a 0), .int p, .int v] (WM g a s m im wa L R rf nu hi lm rn pl sd) (rtE (α := Nat → Int32) (some (.int (ans (wOf s p v 99) (vOf s p 3)))) (fun x9 => WM g a (sA (wOf s p v 99) (sOf s p 3 v) s) x9 im wa L R (rfA (wOf s p v 99) rf) nu hi lm rn pl sd)) (noX) := by
  refine MC.of (by decide) (Nat.le_of_ble_eq_true rfl) ?_
  intro p9 e9 s9 m9 args9 below9 meth9 c9 A9 ls cx htab hw hl
  have hx := cx.1
  have hb := cx.2.1
  have hts := cx.2.2.2.2.1
  have hK := cx.2.2.2.2.2.2.2.1
  have hl : lv_has ls 3 [(0, .ref (a 0)), (1, .int p), (2, .int v)] := hl
  refine lv_aload_n hx hb dX9_pours_0 rfl (lv_at hl 0 rfl) ?_
  refine lv_iload_n hx hb dX9_pours_1 rfl (lv_at hl 1 rfl) ?_
  refine lv_iconst (v := 3) hx hb dX9_pours_2 (by decide) ?_
  refine lv_iload_n hx hb dX9_pours_3 rfl (lv_at hl 2 rfl) ?_
  refine lv_bipush (v := 99) hx hb dX9_pours_4 (by decide) ?_
  refine r_detE (α := Nat → Int32) (r_V cx hw (kX9_setsOf l hl9 g a s m im wa L R rf nu hi lm rn pl sd hI p 3 (by omega) v 99) (cwV 4 hts (lw_V q1314 q1316 qs74 q94 q1317) rfl rfl rfl (by decide +kernel) ⟨Nat.le_of_ble_eq_true rfl, Nat.le_of_ble_eq_true rfl⟩) (r_recv hK hw (k := 0) (ci := 8) rfl rfl) [0, 1, 2, 3, 4, 5, 6, 7, 8] rfl rfl rfl hl.1 rfl (Nat.le_of_ble_eq_true rfl) dX9_pours_6 ⟨Nat.le_of_ble_eq_true rfl, Nat.le_of_ble_eq_true rfl⟩) cx hw [0, 1, 2, 3, 4, 5, 6, 7, 8] rfl rfl (fun _ => rfl) (ws' := fun x9 => WM g a (sA (wOf s p v 99) (sOf s p 3 v) s) x9 im wa L R (rfA (wOf s p v 99) rf) nu hi lm rn pl sd) (fun _ => rfl) (fun mm_1 H locs hw => ?_)
  refine W.eq (g2 := F0 m9 9 ls [.int (ans (wOf s p v 99) (vOf s p 3))]) rfl ?_
  have hw : WS g A9 s9.heap (WM g a (sA (wOf s p v 99) (sOf s p 3 v) s) mm_1 im wa L R (rfA (wOf s p v 99) rf) nu hi lm rn pl sd) H locs := hw
  exact r_iret cx hw (⟨_, rfl, rfl⟩) (Nat.le_of_ble_eq_true rfl) (Nat.le_of_ble_eq_true rfl) dX9_pours_9

set_option maxHeartbeats 4000000 in
set_option maxRecDepth 100000 in
theorem kX9_cans (l : Launch) (hl9 : l.stackTraces = false) (g : GG) (a : Nat → Nat) (s m im wa L R rf nu : Nat → Int32) (hi lm rn pl sd : Int32) (hI : InvM s) (p v : Int32) : MC l yX9_cans cX9_cans 3 (some .int) 3 68 0 0 g [.ref (a 0), .int p, .int v] (WM g a s m im wa L R rf nu hi lm rn pl sd) (rtE (α := Nat → Int32) (some (.int (ans (wOf s p v 9) (vOf s p 2)))) (fun x9 => WM g a (sA (wOf s p v 9) (sOf s p 2 v) s) x9 im wa L R (rfA (wOf s p v 9) rf) nu hi lm rn pl sd)) (noX) := by
  refine MC.of (by decide) (Nat.le_of_ble_eq_true rfl) ?_
  intro p9 e9 s9 m9 args9 below9 meth9 c9 A9 ls cx htab hw hl
  have hx := cx.1
  have hb := cx.2.1
  have hts := cx.2.2.2.2.1
  have hK := cx.2.2.2.2.2.2.2.1
  have hl : lv_has ls 3 [(0, .ref (a 0)), (1, .int p), (2, .int v)] := hl
  refine lv_aload_n hx hb dX9_cans_0 rfl (lv_at hl 0 rfl) ?_
  refine lv_iload_n hx hb dX9_cans_1 rfl (lv_at hl 1 rfl) ?_
  refine lv_iconst (v := 2) hx hb dX9_cans_2 (by decide) ?_
  refine lv_iload_n hx hb dX9_cans_3 rfl (lv_at hl 2 rfl) ?_
  refine lv_bipush (v := 9) hx hb dX9_cans_4 (by decide) ?_
  refine r_detE (α := Nat → Int32) (r_V cx hw (kX9_setsOf l hl9 g a s m im wa L R rf nu hi lm rn pl sd hI p 2 (by omega) v 9) (cwV 4 hts (lw_V q1314 q1316 qs74 q94 q1317) rfl rfl rfl (by decide +kernel) ⟨Nat.le_of_ble_eq_true rfl, Nat.le_of_ble_eq_true rfl⟩) (r_recv hK hw (k := 0) (ci := 8) rfl rfl) [0, 1, 2, 3, 4, 5, 6, 7, 8] rfl rfl rfl hl.1 rfl (Nat.le_of_ble_eq_true rfl) dX9_cans_6 ⟨Nat.le_of_ble_eq_true rfl, Nat.le_of_ble_eq_true rfl⟩) cx hw [0, 1, 2, 3, 4, 5, 6, 7, 8] rfl rfl (fun _ => rfl) (ws' := fun x9 => WM g a (sA (wOf s p v 9) (sOf s p 2 v) s) x9 im wa L R (rfA (wOf s p v 9) rf) nu hi lm rn pl sd) (fun _ => rfl) (fun mm_1 H locs hw => ?_)
  refine W.eq (g2 := F0 m9 9 ls [.int (ans (wOf s p v 9) (vOf s p 2))]) rfl ?_
  have hw : WS g A9 s9.heap (WM g a (sA (wOf s p v 9) (sOf s p 2 v) s) mm_1 im wa L R (rfA (wOf s p v 9) rf) nu hi lm rn pl sd) H locs := hw
  exact r_iret cx hw (⟨_, rfl, rfl⟩) (Nat.le_of_ble_eq_true rfl) (Nat.le_of_ble_eq_true rfl) dX9_cans_9

set_option maxHeartbeats 4000000 in
set_option maxRecDepth 100000 in
theorem kX9_setsIn (l : Launch) (hl9 : l.stackTraces = false) (g : GG) (a : Nat → Nat) (s m im wa L R rf nu : Nat → Int32) (hi lm rn pl sd : Int32) (k : Nat) (hk : k < 47) (v M : Int32) : MC l yX9_setsIn cX9_setsIn 5 (some .int) 1 23 0 0 g [.ref (a 0), .int (nI k), .int v, .int M] (WM g a s m im wa L R rf nu hi lm rn pl sd) (rtE (α := Nat → Int32) (some (.int (ans (wrF v 0 M) (s k)))) (fun x9 => WM g a (sA (wrF v 0 M) (upd s k v) s) x9 im wa L R (rfA (wrF v 0 M) rf) nu hi lm rn pl sd)) (noX) := by
  by_cases hW : wrF v 0 M = 0
  · skip
    refine MC.of (by decide) (Nat.le_of_ble_eq_true rfl) ?_
    intro p9 e9 s9 m9 args9 below9 meth9 c9 A9 ls cx htab hw hl
    have hx := cx.1
    have hb := cx.2.1
    have hts := cx.2.2.2.2.1
    have hK := cx.2.2.2.2.2.2.2.1
    have hl : lv_has ls 5 [(0, .ref (a 0)), (1, .int (nI k)), (2, .int v), (3, .int M)] := hl
    refine lv_iload_n hx hb dX9_setsIn_0 rfl (lv_at hl 2 rfl) ?_
    refine lv_iconst (v := 0) hx hb dX9_setsIn_1 (by decide) ?_
    refine lv_iload_n hx hb dX9_setsIn_2 rfl (lv_at hl 3 rfl) ?_
    refine r_det (r_S cx hw (kX9_wrongBy l hl9 g v 0 M) (va_cwS 3 hts (lw_S q1318 q1319 q94 q1320) rfl rfl rfl (by decide +kernel) ⟨Nat.le_of_ble_eq_true rfl, Nat.le_of_ble_eq_true rfl⟩) [] rfl rfl rfl hl.1 rfl (Nat.le_of_ble_eq_true rfl) dX9_setsIn_3 ⟨Nat.le_of_ble_eq_true rfl, Nat.le_of_ble_eq_true rfl⟩) cx hw [] rfl rfl rfl (ws' := WM g a s m im wa L R rf nu hi lm rn pl sd) (rfl) (fun H locs hw => ?_)
    refine W.eq (g2 := F0 m9 6 ls [.int (wrF v 0 M)]) rfl ?_
    refine lv_istore (lv' := [(4, .int (wrF v 0 M)), (0, .ref (a 0)), (1, .int (nI k)), (2, .int v), (3, .int M)]) hx hb dX9_setsIn_6 hl (by decide) rfl (fun ls hl => ?_)
    refine lv_iload hx hb dX9_setsIn_8 (lv_at hl 0 rfl) ?_
    refine lv_if_eq (tgt := 22) hx hb dX9_setsIn_10 (by decide) (fun c_10 => ?_) (fun c_10 => absurd hW c_10)
    refine lv_aload_n hx hb dX9_setsIn_22 rfl (lv_at hl 1 rfl) ?_
    refine lv_iload_n hx hb dX9_setsIn_23 rfl (lv_at hl 2 rfl) ?_
    refine lv_iload_n hx hb dX9_setsIn_24 rfl (lv_at hl 3 rfl) ?_
    refine r_det (r_V cx hw (kX9_sets l hl9 g a s m im wa L R rf nu hi lm rn pl sd k (by omega) v) (cwV 2 hts (lw_V q1306 q1308 qs73 q94 q1309) rfl rfl rfl (by decide +kernel) ⟨Nat.le_of_ble_eq_true rfl, Nat.le_of_ble_eq_true rfl⟩) (r_recv hK hw (k := 0) (ci := 8) rfl rfl) [0, 1, 2, 3, 4, 5, 6, 7, 8] rfl rfl rfl hl.1 rfl (Nat.le_of_ble_eq_true rfl) dX9_setsIn_25 ⟨Nat.le_of_ble_eq_true rfl, Nat.le_of_ble_eq_true rfl⟩) cx hw [0, 1, 2, 3, 4, 5, 6, 7, 8] rfl rfl rfl (ws' := WM g a (upd s k v) m im wa L R rf nu hi lm rn pl sd) (rfl) (fun H locs hw => ?_)
    refine W.eq (g2 := F0 m9 28 ls [.int (s k)]) rfl ?_
    exact r_iret cx hw (⟨_, by rw [hW, ans_0], by rw [hW, rfA_0, sA_0]⟩) (Nat.le_of_ble_eq_true rfl) (Nat.le_of_ble_eq_true rfl) dX9_setsIn_28
  · skip
    refine MC.of (by decide) (Nat.le_of_ble_eq_true rfl) ?_
    intro p9 e9 s9 m9 args9 below9 meth9 c9 A9 ls cx htab hw hl
    have hx := cx.1
    have hb := cx.2.1
    have hts := cx.2.2.2.2.1
    have hK := cx.2.2.2.2.2.2.2.1
    have hl : lv_has ls 5 [(0, .ref (a 0)), (1, .int (nI k)), (2, .int v), (3, .int M)] := hl
    refine lv_iload_n hx hb dX9_setsIn_0 rfl (lv_at hl 2 rfl) ?_
    refine lv_iconst (v := 0) hx hb dX9_setsIn_1 (by decide) ?_
    refine lv_iload_n hx hb dX9_setsIn_2 rfl (lv_at hl 3 rfl) ?_
    refine r_det (r_S cx hw (kX9_wrongBy l hl9 g v 0 M) (va_cwS 3 hts (lw_S q1318 q1319 q94 q1320) rfl rfl rfl (by decide +kernel) ⟨Nat.le_of_ble_eq_true rfl, Nat.le_of_ble_eq_true rfl⟩) [] rfl rfl rfl hl.1 rfl (Nat.le_of_ble_eq_true rfl) dX9_setsIn_3 ⟨Nat.le_of_ble_eq_true rfl, Nat.le_of_ble_eq_true rfl⟩) cx hw [] rfl rfl rfl (ws' := WM g a s m im wa L R rf nu hi lm rn pl sd) (rfl) (fun H locs hw => ?_)
    refine W.eq (g2 := F0 m9 6 ls [.int (wrF v 0 M)]) rfl ?_
    refine lv_istore (lv' := [(4, .int (wrF v 0 M)), (0, .ref (a 0)), (1, .int (nI k)), (2, .int v), (3, .int M)]) hx hb dX9_setsIn_6 hl (by decide) rfl (fun ls hl => ?_)
    refine lv_iload hx hb dX9_setsIn_8 (lv_at hl 0 rfl) ?_
    refine lv_if_eq (tgt := 22) hx hb dX9_setsIn_10 (by decide) (fun c_10 => absurd c_10 hW) (fun c_10 => ?_)
    refine lv_aload_n hx hb dX9_setsIn_13 rfl (lv_at hl 1 rfl) ?_
    refine lv_iload hx hb dX9_setsIn_14 (lv_at hl 0 rfl) ?_
    refine r_det (r_V cx hw (kX9_no l hl9 g a s m im wa L R rf nu hi lm rn pl sd (wrF v 0 M) (wrF_ok hW)) (cwV 1 hts (lw_V q1213 q1215 qs65 q94 q1216) rfl rfl rfl (by decide +kernel) ⟨Nat.le_of_ble_eq_true rfl, Nat.le_of_ble_eq_true rfl⟩) (r_recv hK hw (k := 0) (ci := 8) rfl rfl) [0, 1, 2, 3, 4, 5, 6, 7, 8] rfl rfl rfl hl.1 rfl (Nat.le_of_ble_eq_true rfl) dX9_setsIn_16 ⟨Nat.le_of_ble_eq_true rfl, Nat.le_of_ble_eq_true rfl⟩) cx hw [0, 1, 2, 3, 4, 5, 6, 7, 8] rfl rfl rfl (ws' := WM g a s m im wa L R (rfU rf (wrF v 0 M)) nu hi lm rn pl sd) (rfl) (fun H locs hw => ?_)
    refine W.eq (g2 := F0 m9 19 ls [.int (wrF v 0 M)]) rfl ?_
    refine lv_goto (tgt := 28) hx hb dX9_setsIn_19 (by decide) ?_
    exact r_iret cx hw (⟨_, by rw [ans_n hW], by rw [rfA_n hW, sA_n hW]⟩) (Nat.le_of_ble_eq_true rfl) (Nat.le_of_ble_eq_true rfl) dX9_setsIn_28

set_option maxHeartbeats 4000000 in
set_option maxRecDepth 100000 in
theorem kX9_water (l : Launch) (hl9 : l.stackTraces = false) (g : GG) (a : Nat → Nat) (s m im wa L R rf nu : Nat → Int32) (hi lm rn pl sd : Int32) (hI : InvM s) (v : Int32) : MC l yX9_water cX9_water 2 (some .int) 2 47 0 0 g [.ref (a 0), .int v] (WM g a s m im wa L R rf nu hi lm rn pl sd) (rtE (α := Nat → Int32) (some (.int (ans (wrF v 0 99) (s 2)))) (fun x9 => WM g a (sA (wrF v 0 99) (upd s 2 v) s) x9 im wa L R (rfA (wrF v 0 99) rf) nu hi lm rn pl sd)) (noX) := by
  refine MC.of (by decide) (Nat.le_of_ble_eq_true rfl) ?_
  intro p9 e9 s9 m9 args9 below9 meth9 c9 A9 ls cx htab hw hl
  have hx := cx.1
  have hb := cx.2.1
  have hts := cx.2.2.2.2.1
  have hK := cx.2.2.2.2.2.2.2.1
  have hl : lv_has ls 2 [(0, .ref (a 0)), (1, .int v)] := hl
  refine lv_aload_n hx hb dX9_water_0 rfl (lv_at hl 0 rfl) ?_
  refine lv_iconst (v := 2) hx hb dX9_water_1 (by decide) ?_
  refine lv_iload_n hx hb dX9_water_2 rfl (lv_at hl 1 rfl) ?_
  refine lv_bipush (v := 99) hx hb dX9_water_3 (by decide) ?_
  refine r_detE (α := Nat → Int32) (r_V cx hw (kX9_setsIn l hl9 g a s m im wa L R rf nu hi lm rn pl sd 2 (by omega) v 99) (cwV 3 hts (lw_V q1329 q1331 qs75 q94 q1332) rfl rfl rfl (by decide +kernel) ⟨Nat.le_of_ble_eq_true rfl, Nat.le_of_ble_eq_true rfl⟩) (r_recv hK hw (k := 0) (ci := 8) rfl rfl) [0, 1, 2, 3, 4, 5, 6, 7, 8] rfl rfl rfl hl.1 rfl (Nat.le_of_ble_eq_true rfl) dX9_water_5 ⟨Nat.le_of_ble_eq_true rfl, Nat.le_of_ble_eq_true rfl⟩) cx hw [0, 1, 2, 3, 4, 5, 6, 7, 8] rfl rfl (fun _ => rfl) (ws' := fun x9 => WM g a (sA (wrF v 0 99) (upd s 2 v) s) x9 im wa L R (rfA (wrF v 0 99) rf) nu hi lm rn pl sd) (fun _ => rfl) (fun mm_1 H locs hw => ?_)
  refine W.eq (g2 := F0 m9 8 ls [.int (ans (wrF v 0 99) (s 2))]) rfl ?_
  have hw : WS g A9 s9.heap (WM g a (sA (wrF v 0 99) (upd s 2 v) s) mm_1 im wa L R (rfA (wrF v 0 99) rf) nu hi lm rn pl sd) H locs := hw
  exact r_iret cx hw (⟨_, rfl, rfl⟩) (Nat.le_of_ble_eq_true rfl) (Nat.le_of_ble_eq_true rfl) dX9_water_8

set_option maxHeartbeats 4000000 in
set_option maxRecDepth 100000 in
theorem kX9_flow (l : Launch) (hl9 : l.stackTraces = false) (g : GG) (a : Nat → Nat) (s m im wa L R rf nu : Nat → Int32) (hi lm rn pl sd : Int32) (hI : InvM s) (v : Int32) : MC l yX9_flow cX9_flow 2 (some .int) 2 47 0 0 g [.ref (a 0), .int v] (WM g a s m im wa L R rf nu hi lm rn pl sd) (rtE (α := Nat → Int32) (some (.int (ans (wrF v 0 30) (s 3)))) (fun x9 => WM g a (sA (wrF v 0 30) (upd s 3 v) s) x9 im wa L R (rfA (wrF v 0 30) rf) nu hi lm rn pl sd)) (noX) := by
  refine MC.of (by decide) (Nat.le_of_ble_eq_true rfl) ?_
  intro p9 e9 s9 m9 args9 below9 meth9 c9 A9 ls cx htab hw hl
  have hx := cx.1
  have hb := cx.2.1
  have hts := cx.2.2.2.2.1
  have hK := cx.2.2.2.2.2.2.2.1
  have hl : lv_has ls 2 [(0, .ref (a 0)), (1, .int v)] := hl
  refine lv_aload_n hx hb dX9_flow_0 rfl (lv_at hl 0 rfl) ?_
  refine lv_iconst (v := 3) hx hb dX9_flow_1 (by decide) ?_
  refine lv_iload_n hx hb dX9_flow_2 rfl (lv_at hl 1 rfl) ?_
  refine lv_bipush (v := 30) hx hb dX9_flow_3 (by decide) ?_
  refine r_detE (α := Nat → Int32) (r_V cx hw (kX9_setsIn l hl9 g a s m im wa L R rf nu hi lm rn pl sd 3 (by omega) v 30) (cwV 3 hts (lw_V q1329 q1331 qs75 q94 q1332) rfl rfl rfl (by decide +kernel) ⟨Nat.le_of_ble_eq_true rfl, Nat.le_of_ble_eq_true rfl⟩) (r_recv hK hw (k := 0) (ci := 8) rfl rfl) [0, 1, 2, 3, 4, 5, 6, 7, 8] rfl rfl rfl hl.1 rfl (Nat.le_of_ble_eq_true rfl) dX9_flow_5 ⟨Nat.le_of_ble_eq_true rfl, Nat.le_of_ble_eq_true rfl⟩) cx hw [0, 1, 2, 3, 4, 5, 6, 7, 8] rfl rfl (fun _ => rfl) (ws' := fun x9 => WM g a (sA (wrF v 0 30) (upd s 3 v) s) x9 im wa L R (rfA (wrF v 0 30) rf) nu hi lm rn pl sd) (fun _ => rfl) (fun mm_1 H locs hw => ?_)
  refine W.eq (g2 := F0 m9 8 ls [.int (ans (wrF v 0 30) (s 3))]) rfl ?_
  have hw : WS g A9 s9.heap (WM g a (sA (wrF v 0 30) (upd s 3 v) s) mm_1 im wa L R (rfA (wrF v 0 30) rf) nu hi lm rn pl sd) H locs := hw
  exact r_iret cx hw (⟨_, rfl, rfl⟩) (Nat.le_of_ble_eq_true rfl) (Nat.le_of_ble_eq_true rfl) dX9_flow_8

set_option maxHeartbeats 4000000 in
set_option maxRecDepth 100000 in
theorem kX9_turn (l : Launch) (hl9 : l.stackTraces = false) (g : GG) (a : Nat → Nat) (s m im wa L R rf nu : Nat → Int32) (hi lm rn pl sd : Int32) (hI : InvM s) (p k9 f : Int32) : MC l yX9_turn cX9_turn 6 (some .int) 2 43 0 0 g [.ref (a 0), .int p, .int k9, .int f] (WM g a s m im wa L R rf nu hi lm rn pl sd) (rtE (α := Nat → Int32) (some (.int (ans (wTrn s p k9 f) (vTrn s p)))) (fun x9 => WM g a (sA (wTrn s p k9 f) (sTrn s p k9 f) s) x9 im wa L R (rfA (wTrn s p k9 f) rf) nu hi lm rn pl sd)) (noX) := by
  by_cases hps_p : psB s p = true
  · skip
    obtain ⟨k, hk, rfl⟩ := psB_rng hI hps_p
    have hN := hI.1
    have ek : tN (nI k) = k := tN_nI (by omega)
    by_cases hin_k9 : isInB k9 0 5 = true
    · skip
      by_cases hwr_f : wrF f 0 9 = 0
      · skip
        obtain ⟨q, hq, rfl⟩ := nI_rng (M := 9) (by decide) (Int32.le_trans (by decide) (wrF_0 hwr_f).1) (wrF_0 hwr_f).2
        have eq : tN (nI q) = q := tN_nI (by omega)
        have hW : wTrn s (nI k) k9 (nI q) = 0 := by simp [wTrn, hps_p, hin_k9, hwr_f]
        refine MC.of (by decide) (Nat.le_of_ble_eq_true rfl) ?_
        intro p9 e9 s9 m9 args9 below9 meth9 c9 A9 ls cx htab hw hl
        have hx := cx.1
        have hb := cx.2.1
        have hts := cx.2.2.2.2.1
        have hK := cx.2.2.2.2.2.2.2.1
        have hl : lv_has ls 6 [(0, .ref (a 0)), (1, .int (nI k)), (2, .int k9), (3, .int (nI q))] := hl
        refine lv_aload_n hx hb dX9_turn_0 rfl (lv_at hl 0 rfl) ?_
        refine lv_iload_n hx hb dX9_turn_1 rfl (lv_at hl 1 rfl) ?_
        refine r_det (r_V cx hw (kX9_isPerson l hl9 g a s m im wa L R rf nu hi lm rn pl sd (nI k)) (cwV 1 hts (lw_V q1257 q1259 qs72 q94 q1260) rfl rfl rfl (by decide +kernel) ⟨Nat.le_of_ble_eq_true rfl, Nat.le_of_ble_eq_true rfl⟩) (r_recv hK hw (k := 0) (ci := 8) rfl rfl) [0, 1, 2, 3, 4, 5, 6, 7, 8] rfl rfl rfl hl.1 rfl (Nat.le_of_ble_eq_true rfl) dX9_turn_2 ⟨Nat.le_of_ble_eq_true rfl, Nat.le_of_ble_eq_true rfl⟩) cx hw [0, 1, 2, 3, 4, 5, 6, 7, 8] rfl rfl rfl (ws' := WM g a s m im wa L R rf nu hi lm rn pl sd) (rfl) (fun H locs hw => ?_)
        refine W.eq (g2 := F0 m9 5 ls [.int (bI (psB s (nI k)))]) rfl ?_
        refine lv_if_ne (tgt := 12) hx hb dX9_turn_5 (by decide) (fun c_5 => ?_) (fun c_5 => absurd c_5 (by rw [hps_p]; decide))
        refine lv_iload_n hx hb dX9_turn_12 rfl (lv_at hl 2 rfl) ?_
        refine lv_iconst (v := 0) hx hb dX9_turn_13 (by decide) ?_
        refine lv_iconst (v := 5) hx hb dX9_turn_14 (by decide) ?_
        refine r_det (r_S cx hw (kX9_isIn l hl9 g k9 0 5) (va_cwS 3 hts (lw_S q1240 q1241 q94 q1242) rfl rfl rfl (by decide +kernel) ⟨Nat.le_of_ble_eq_true rfl, Nat.le_of_ble_eq_true rfl⟩) [] rfl rfl rfl hl.1 rfl (Nat.le_of_ble_eq_true rfl) dX9_turn_15 ⟨Nat.le_of_ble_eq_true rfl, Nat.le_of_ble_eq_true rfl⟩) cx hw [] rfl rfl rfl (ws' := WM g a s m im wa L R rf nu hi lm rn pl sd) (rfl) (fun H locs hw => ?_)
        refine W.eq (g2 := F0 m9 18 ls [.int (bI (isInB k9 0 5))]) rfl ?_
        refine lv_if_ne (tgt := 26) hx hb dX9_turn_18 (by decide) (fun c_18 => ?_) (fun c_18 => absurd c_18 (by rw [hin_k9]; decide))
        refine lv_iload_n hx hb dX9_turn_26 rfl (lv_at hl 3 rfl) ?_
        refine lv_iconst (v := 0) hx hb dX9_turn_27 (by decide) ?_
        refine lv_bipush (v := 9) hx hb dX9_turn_28 (by decide) ?_
        refine r_det (r_S cx hw (kX9_wrongBy l hl9 g (nI q) 0 9) (va_cwS 3 hts (lw_S q1318 q1319 q94 q1320) rfl rfl rfl (by decide +kernel) ⟨Nat.le_of_ble_eq_true rfl, Nat.le_of_ble_eq_true rfl⟩) [] rfl rfl rfl hl.1 rfl (Nat.le_of_ble_eq_true rfl) dX9_turn_30 ⟨Nat.le_of_ble_eq_true rfl, Nat.le_of_ble_eq_true rfl⟩) cx hw [] rfl rfl rfl (ws' := WM g a s m im wa L R rf nu hi lm rn pl sd) (rfl) (fun H locs hw => ?_)
        refine W.eq (g2 := F0 m9 33 ls [.int (wrF (nI q) 0 9)]) rfl ?_
        refine lv_istore (lv' := [(4, .int (wrF (nI q) 0 9)), (0, .ref (a 0)), (1, .int (nI k)), (2, .int k9), (3, .int (nI q))]) hx hb dX9_turn_33 hl (by decide) rfl (fun ls hl => ?_)
        refine lv_iload hx hb dX9_turn_35 (lv_at hl 0 rfl) ?_
        refine lv_if_eq (tgt := 47) hx hb dX9_turn_37 (by decide) (fun c_37 => ?_) (fun c_37 => absurd hwr_f c_37)
        refine lv_bipush (v := 10) hx hb dX9_turn_47 (by decide) ?_
        refine lv_aload_n hx hb dX9_turn_49 rfl (lv_at hl 1 rfl) ?_
        refine r_get cx hw in_X9 0 (ci := 8) (T := TX9) (N := 13) rfl rfl 0 (by decide) q1169 (fun _ h9 => h9) rfl dX9_turn_50 ?_
        refine lv_iload_n hx hb dX9_turn_53 rfl (lv_at hl 2 rfl) ?_
        refine lv_iconst (v := 0) hx hb dX9_turn_54 (by decide) ?_
        refine r_det (r_S cx hw (kX9_of l hl9 g k 0) (va_cwS 2 hts (lw_S q1254 q1255 q94 q1256) rfl rfl rfl (by decide +kernel) ⟨Nat.le_of_ble_eq_true rfl, Nat.le_of_ble_eq_true rfl⟩) [] rfl rfl rfl hl.1 rfl (Nat.le_of_ble_eq_true rfl) dX9_turn_55 ⟨Nat.le_of_ble_eq_true rfl, Nat.le_of_ble_eq_true rfl⟩) cx hw [] rfl rfl rfl (ws' := WM g a s m im wa L R rf nu hi lm rn pl sd) (rfl) (fun H locs hw => ?_)
        refine W.eq (g2 := F0 m9 58 ls [.int (nI (5 + 7 * k)), .ref (a 1), .int 10]) rfl ?_
        refine r_iald cx hw 1 rfl (5 + 7 * k) rfl (by omega) (Nat.le_of_ble_eq_true rfl) dX9_turn_58 ?_
        refine lv_imul hx hb dX9_turn_59 ?_
        refine lv_aload_n hx hb dX9_turn_60 rfl (lv_at hl 1 rfl) ?_
        refine r_get cx hw in_X9 0 (ci := 8) (T := TX9) (N := 13) rfl rfl 0 (by decide) q1169 (fun _ h9 => h9) rfl dX9_turn_61 ?_
        refine lv_iload_n hx hb dX9_turn_64 rfl (lv_at hl 2 rfl) ?_
        refine lv_iconst (v := 1) hx hb dX9_turn_65 (by decide) ?_
        refine r_det (r_S cx hw (kX9_of l hl9 g k 1) (va_cwS 2 hts (lw_S q1254 q1255 q94 q1256) rfl rfl rfl (by decide +kernel) ⟨Nat.le_of_ble_eq_true rfl, Nat.le_of_ble_eq_true rfl⟩) [] rfl rfl rfl hl.1 rfl (Nat.le_of_ble_eq_true rfl) dX9_turn_66 ⟨Nat.le_of_ble_eq_true rfl, Nat.le_of_ble_eq_true rfl⟩) cx hw [] rfl rfl rfl (ws' := WM g a s m im wa L R rf nu hi lm rn pl sd) (rfl) (fun H locs hw => ?_)
        refine W.eq (g2 := F0 m9 69 ls [.int (nI (5 + 7 * k + 1)), .ref (a 1), .int (10 * (s (5 + 7 * k)))]) rfl ?_
        refine r_iald cx hw 1 rfl (5 + 7 * k + 1) rfl (by omega) (Nat.le_of_ble_eq_true rfl) dX9_turn_69 ?_
        refine lv_iadd hx hb dX9_turn_70 ?_
        refine lv_istore (lv' := [(5, .int ((10 * (s (5 + 7 * k))) + (s (5 + 7 * k + 1)))), (4, .int (wrF (nI q) 0 9)), (0, .ref (a 0)), (1, .int (nI k)), (2, .int k9), (3, .int (nI q))]) hx hb dX9_turn_71 hl (by decide) rfl (fun ls hl => ?_)
        refine lv_aload_n hx hb dX9_turn_73 rfl (lv_at hl 2 rfl) ?_
        refine r_get cx hw in_X9 0 (ci := 8) (T := TX9) (N := 13) rfl rfl 0 (by decide) q1169 (fun _ h9 => h9) rfl dX9_turn_74 ?_
        refine lv_iload_n hx hb dX9_turn_77 rfl (lv_at hl 3 rfl) ?_
        refine lv_iconst (v := 0) hx hb dX9_turn_78 (by decide) ?_
        refine r_det (r_S cx hw (kX9_of l hl9 g k 0) (va_cwS 2 hts (lw_S q1254 q1255 q94 q1256) rfl rfl rfl (by decide +kernel) ⟨Nat.le_of_ble_eq_true rfl, Nat.le_of_ble_eq_true rfl⟩) [] rfl rfl rfl hl.1 rfl (Nat.le_of_ble_eq_true rfl) dX9_turn_79 ⟨Nat.le_of_ble_eq_true rfl, Nat.le_of_ble_eq_true rfl⟩) cx hw [] rfl rfl rfl (ws' := WM g a s m im wa L R rf nu hi lm rn pl sd) (rfl) (fun H locs hw => ?_)
        refine W.eq (g2 := F0 m9 82 ls [.int (nI (5 + 7 * k)), .ref (a 1)]) rfl ?_
        refine lv_iload_n hx hb dX9_turn_82 rfl (lv_at hl 4 rfl) ?_
        refine r_iast cx hw 1 rfl (5 + 7 * k) rfl (by omega) (Nat.le_of_ble_eq_true rfl) dX9_turn_83 (fun H locs hw => ?_)
        have hw : WS g A9 s9.heap (WM g a (upd s (5 + 7 * k) k9) m im wa L R rf nu hi lm rn pl sd) H locs := hw
        refine lv_aload_n hx hb dX9_turn_84 rfl (lv_at hl 2 rfl) ?_
        refine r_get cx hw in_X9 0 (ci := 8) (T := TX9) (N := 13) rfl rfl 0 (by decide) q1169 (fun _ h9 => h9) rfl dX9_turn_85 ?_
        refine lv_iload_n hx hb dX9_turn_88 rfl (lv_at hl 3 rfl) ?_
        refine lv_iconst (v := 1) hx hb dX9_turn_89 (by decide) ?_
        refine r_det (r_S cx hw (kX9_of l hl9 g k 1) (va_cwS 2 hts (lw_S q1254 q1255 q94 q1256) rfl rfl rfl (by decide +kernel) ⟨Nat.le_of_ble_eq_true rfl, Nat.le_of_ble_eq_true rfl⟩) [] rfl rfl rfl hl.1 rfl (Nat.le_of_ble_eq_true rfl) dX9_turn_90 ⟨Nat.le_of_ble_eq_true rfl, Nat.le_of_ble_eq_true rfl⟩) cx hw [] rfl rfl rfl (ws' := WM g a (upd s (5 + 7 * k) k9) m im wa L R rf nu hi lm rn pl sd) (rfl) (fun H locs hw => ?_)
        refine W.eq (g2 := F0 m9 93 ls [.int (nI (5 + 7 * k + 1)), .ref (a 1)]) rfl ?_
        refine lv_iload_n hx hb dX9_turn_93 rfl (lv_at hl 5 rfl) ?_
        refine r_iast cx hw 1 rfl (5 + 7 * k + 1) rfl (by omega) (Nat.le_of_ble_eq_true rfl) dX9_turn_94 (fun H locs hw => ?_)
        have hw : WS g A9 s9.heap (WM g a (upd (upd s (5 + 7 * k) k9) (5 + 7 * k + 1) (nI q)) m im wa L R rf nu hi lm rn pl sd) H locs := hw
        refine lv_iload hx hb dX9_turn_95 (lv_at hl 0 rfl) ?_
        exact r_iret cx hw (⟨_, by rw [hW, ans_0]; rw [vTrn, ek], by rw [hW, rfA_0, sA_0, sTrn, ek]⟩) (Nat.le_of_ble_eq_true rfl) (Nat.le_of_ble_eq_true rfl) dX9_turn_97
      · skip
        have hW : wTrn s (nI k) k9 f = wrF f 0 9 := by simp [wTrn, hps_p, hin_k9, hwr_f]
        have hne : ¬ wTrn s (nI k) k9 f = 0 := by rw [hW]; exact hwr_f
        refine MC.of (by decide) (Nat.le_of_ble_eq_true rfl) ?_
        intro p9 e9 s9 m9 args9 below9 meth9 c9 A9 ls cx htab hw hl
        have hx := cx.1
        have hb := cx.2.1
        have hts := cx.2.2.2.2.1
        have hK := cx.2.2.2.2.2.2.2.1
        have hl : lv_has ls 6 [(0, .ref (a 0)), (1, .int (nI k)), (2, .int k9), (3, .int f)] := hl
        refine lv_aload_n hx hb dX9_turn_0 rfl (lv_at hl 0 rfl) ?_
        refine lv_iload_n hx hb dX9_turn_1 rfl (lv_at hl 1 rfl) ?_
        refine r_det (r_V cx hw (kX9_isPerson l hl9 g a s m im wa L R rf nu hi lm rn pl sd (nI k)) (cwV 1 hts (lw_V q1257 q1259 qs72 q94 q1260) rfl rfl rfl (by decide +kernel) ⟨Nat.le_of_ble_eq_true rfl, Nat.le_of_ble_eq_true rfl⟩) (r_recv hK hw (k := 0) (ci := 8) rfl rfl) [0, 1, 2, 3, 4, 5, 6, 7, 8] rfl rfl rfl hl.1 rfl (Nat.le_of_ble_eq_true rfl) dX9_turn_2 ⟨Nat.le_of_ble_eq_true rfl, Nat.le_of_ble_eq_true rfl⟩) cx hw [0, 1, 2, 3, 4, 5, 6, 7, 8] rfl rfl rfl (ws' := WM g a s m im wa L R rf nu hi lm rn pl sd) (rfl) (fun H locs hw => ?_)
        refine W.eq (g2 := F0 m9 5 ls [.int (bI (psB s (nI k)))]) rfl ?_
        refine lv_if_ne (tgt := 12) hx hb dX9_turn_5 (by decide) (fun c_5 => ?_) (fun c_5 => absurd c_5 (by rw [hps_p]; decide))
        refine lv_iload_n hx hb dX9_turn_12 rfl (lv_at hl 2 rfl) ?_
        refine lv_iconst (v := 0) hx hb dX9_turn_13 (by decide) ?_
        refine lv_iconst (v := 5) hx hb dX9_turn_14 (by decide) ?_
        refine r_det (r_S cx hw (kX9_isIn l hl9 g k9 0 5) (va_cwS 3 hts (lw_S q1240 q1241 q94 q1242) rfl rfl rfl (by decide +kernel) ⟨Nat.le_of_ble_eq_true rfl, Nat.le_of_ble_eq_true rfl⟩) [] rfl rfl rfl hl.1 rfl (Nat.le_of_ble_eq_true rfl) dX9_turn_15 ⟨Nat.le_of_ble_eq_true rfl, Nat.le_of_ble_eq_true rfl⟩) cx hw [] rfl rfl rfl (ws' := WM g a s m im wa L R rf nu hi lm rn pl sd) (rfl) (fun H locs hw => ?_)
        refine W.eq (g2 := F0 m9 18 ls [.int (bI (isInB k9 0 5))]) rfl ?_
        refine lv_if_ne (tgt := 26) hx hb dX9_turn_18 (by decide) (fun c_18 => ?_) (fun c_18 => absurd c_18 (by rw [hin_k9]; decide))
        refine lv_iload_n hx hb dX9_turn_26 rfl (lv_at hl 3 rfl) ?_
        refine lv_iconst (v := 0) hx hb dX9_turn_27 (by decide) ?_
        refine lv_bipush (v := 9) hx hb dX9_turn_28 (by decide) ?_
        refine r_det (r_S cx hw (kX9_wrongBy l hl9 g f 0 9) (va_cwS 3 hts (lw_S q1318 q1319 q94 q1320) rfl rfl rfl (by decide +kernel) ⟨Nat.le_of_ble_eq_true rfl, Nat.le_of_ble_eq_true rfl⟩) [] rfl rfl rfl hl.1 rfl (Nat.le_of_ble_eq_true rfl) dX9_turn_30 ⟨Nat.le_of_ble_eq_true rfl, Nat.le_of_ble_eq_true rfl⟩) cx hw [] rfl rfl rfl (ws' := WM g a s m im wa L R rf nu hi lm rn pl sd) (rfl) (fun H locs hw => ?_)
        refine W.eq (g2 := F0 m9 33 ls [.int (wrF f 0 9)]) rfl ?_
        refine lv_istore (lv' := [(4, .int (wrF f 0 9)), (0, .ref (a 0)), (1, .int (nI k)), (2, .int k9), (3, .int f)]) hx hb dX9_turn_33 hl (by decide) rfl (fun ls hl => ?_)
        refine lv_iload hx hb dX9_turn_35 (lv_at hl 0 rfl) ?_
        refine lv_if_eq (tgt := 47) hx hb dX9_turn_37 (by decide) (fun c_37 => absurd c_37 hwr_f) (fun c_37 => ?_)
        refine lv_aload_n hx hb dX9_turn_40 rfl (lv_at hl 1 rfl) ?_
        refine lv_iload hx hb dX9_turn_41 (lv_at hl 0 rfl) ?_
        refine r_det (r_V cx hw (kX9_no l hl9 g a s m im wa L R rf nu hi lm rn pl sd (wrF f 0 9) (wrF_ok hwr_f)) (cwV 1 hts (lw_V q1213 q1215 qs65 q94 q1216) rfl rfl rfl (by decide +kernel) ⟨Nat.le_of_ble_eq_true rfl, Nat.le_of_ble_eq_true rfl⟩) (r_recv hK hw (k := 0) (ci := 8) rfl rfl) [0, 1, 2, 3, 4, 5, 6, 7, 8] rfl rfl rfl hl.1 rfl (Nat.le_of_ble_eq_true rfl) dX9_turn_43 ⟨Nat.le_of_ble_eq_true rfl, Nat.le_of_ble_eq_true rfl⟩) cx hw [0, 1, 2, 3, 4, 5, 6, 7, 8] rfl rfl rfl (ws' := WM g a s m im wa L R (rfU rf (wrF f 0 9)) nu hi lm rn pl sd) (rfl) (fun H locs hw => ?_)
        refine W.eq (g2 := F0 m9 46 ls [.int (wrF f 0 9)]) rfl ?_
        exact r_iret cx hw (⟨_, by rw [ans_n hne, hW], by rw [rfA_n hne, sA_n hne, hW]⟩) (Nat.le_of_ble_eq_true rfl) (Nat.le_of_ble_eq_true rfl) dX9_turn_46
    · skip
      have hin_k9 : isInB k9 0 5 = false := by simpa using hin_k9
      have hW : wTrn s (nI k) k9 f = -2 := by simp [wTrn, hps_p, hin_k9]
      have hne : ¬ wTrn s (nI k) k9 f = 0 := by rw [hW]; decide
      refine MC.of (by decide) (Nat.le_of_ble_eq_true rfl) ?_
      intro p9 e9 s9 m9 args9 below9 meth9 c9 A9 ls cx htab hw hl
      have hx := cx.1
      have hb := cx.2.1
      have hts := cx.2.2.2.2.1
      have hK := cx.2.2.2.2.2.2.2.1
      have hl : lv_has ls 6 [(0, .ref (a 0)), (1, .int (nI k)), (2, .int k9), (3, .int f)] := hl
      refine lv_aload_n hx hb dX9_turn_0 rfl (lv_at hl 0 rfl) ?_
      refine lv_iload_n hx hb dX9_turn_1 rfl (lv_at hl 1 rfl) ?_
      refine r_det (r_V cx hw (kX9_isPerson l hl9 g a s m im wa L R rf nu hi lm rn pl sd (nI k)) (cwV 1 hts (lw_V q1257 q1259 qs72 q94 q1260) rfl rfl rfl (by decide +kernel) ⟨Nat.le_of_ble_eq_true rfl, Nat.le_of_ble_eq_true rfl⟩) (r_recv hK hw (k := 0) (ci := 8) rfl rfl) [0, 1, 2, 3, 4, 5, 6, 7, 8] rfl rfl rfl hl.1 rfl (Nat.le_of_ble_eq_true rfl) dX9_turn_2 ⟨Nat.le_of_ble_eq_true rfl, Nat.le_of_ble_eq_true rfl⟩) cx hw [0, 1, 2, 3, 4, 5, 6, 7, 8] rfl rfl rfl (ws' := WM g a s m im wa L R rf nu hi lm rn pl sd) (rfl) (fun H locs hw => ?_)
      refine W.eq (g2 := F0 m9 5 ls [.int (bI (psB s (nI k)))]) rfl ?_
      refine lv_if_ne (tgt := 12) hx hb dX9_turn_5 (by decide) (fun c_5 => ?_) (fun c_5 => absurd c_5 (by rw [hps_p]; decide))
      refine lv_iload_n hx hb dX9_turn_12 rfl (lv_at hl 2 rfl) ?_
      refine lv_iconst (v := 0) hx hb dX9_turn_13 (by decide) ?_
      refine lv_iconst (v := 5) hx hb dX9_turn_14 (by decide) ?_
      refine r_det (r_S cx hw (kX9_isIn l hl9 g k9 0 5) (va_cwS 3 hts (lw_S q1240 q1241 q94 q1242) rfl rfl rfl (by decide +kernel) ⟨Nat.le_of_ble_eq_true rfl, Nat.le_of_ble_eq_true rfl⟩) [] rfl rfl rfl hl.1 rfl (Nat.le_of_ble_eq_true rfl) dX9_turn_15 ⟨Nat.le_of_ble_eq_true rfl, Nat.le_of_ble_eq_true rfl⟩) cx hw [] rfl rfl rfl (ws' := WM g a s m im wa L R rf nu hi lm rn pl sd) (rfl) (fun H locs hw => ?_)
      refine W.eq (g2 := F0 m9 18 ls [.int (bI (isInB k9 0 5))]) rfl ?_
      refine lv_if_ne (tgt := 26) hx hb dX9_turn_18 (by decide) (fun c_18 => absurd c_18 (by rw [hin_k9]; decide)) (fun c_18 => ?_)
      refine lv_bipush (v := (-2)) hx hb dX9_turn_21 (by decide) ?_
      refine lv_goto (tgt := 33) hx hb dX9_turn_23 (by decide) ?_
      refine lv_istore (lv' := [(4, .int (-2)), (0, .ref (a 0)), (1, .int (nI k)), (2, .int k9), (3, .int f)]) hx hb dX9_turn_33 hl (by decide) rfl (fun ls hl => ?_)
      refine lv_iload hx hb dX9_turn_35 (lv_at hl 0 rfl) ?_
      refine lv_if_eq (tgt := 47) hx hb dX9_turn_37 (by decide) (fun c_37 => absurd c_37 (by decide)) (fun c_37 => ?_)
      refine lv_aload_n hx hb dX9_turn_40 rfl (lv_at hl 1 rfl) ?_
      refine lv_iload hx hb dX9_turn_41 (lv_at hl 0 rfl) ?_
      refine r_det (r_V cx hw (kX9_no l hl9 g a s m im wa L R rf nu hi lm rn pl sd (-2) (by unfold okC; decide)) (cwV 1 hts (lw_V q1213 q1215 qs65 q94 q1216) rfl rfl rfl (by decide +kernel) ⟨Nat.le_of_ble_eq_true rfl, Nat.le_of_ble_eq_true rfl⟩) (r_recv hK hw (k := 0) (ci := 8) rfl rfl) [0, 1, 2, 3, 4, 5, 6, 7, 8] rfl rfl rfl hl.1 rfl (Nat.le_of_ble_eq_true rfl) dX9_turn_43 ⟨Nat.le_of_ble_eq_true rfl, Nat.le_of_ble_eq_true rfl⟩) cx hw [0, 1, 2, 3, 4, 5, 6, 7, 8] rfl rfl rfl (ws' := WM g a s m im wa L R (rfU rf (-2)) nu hi lm rn pl sd) (rfl) (fun H locs hw => ?_)
      refine W.eq (g2 := F0 m9 46 ls [.int (-2)]) rfl ?_
      exact r_iret cx hw (⟨_, by rw [ans_n hne, hW], by rw [rfA_n hne, sA_n hne, hW]⟩) (Nat.le_of_ble_eq_true rfl) (Nat.le_of_ble_eq_true rfl) dX9_turn_46
  · skip
    have hps_p : psB s p = false := by simpa using hps_p
    have hW : wTrn s p k9 f = -1 := by simp [wTrn, hps_p]
    have hne : ¬ wTrn s p k9 f = 0 := by rw [hW]; decide
    refine MC.of (by decide) (Nat.le_of_ble_eq_true rfl) ?_
    intro p9 e9 s9 m9 args9 below9 meth9 c9 A9 ls cx htab hw hl
    have hx := cx.1
    have hb := cx.2.1
    have hts := cx.2.2.2.2.1
    have hK := cx.2.2.2.2.2.2.2.1
    have hl : lv_has ls 6 [(0, .ref (a 0)), (1, .int p), (2, .int k9), (3, .int f)] := hl
    refine lv_aload_n hx hb dX9_turn_0 rfl (lv_at hl 0 rfl) ?_
    refine lv_iload_n hx hb dX9_turn_1 rfl (lv_at hl 1 rfl) ?_
    refine r_det (r_V cx hw (kX9_isPerson l hl9 g a s m im wa L R rf nu hi lm rn pl sd p) (cwV 1 hts (lw_V q1257 q1259 qs72 q94 q1260) rfl rfl rfl (by decide +kernel) ⟨Nat.le_of_ble_eq_true rfl, Nat.le_of_ble_eq_true rfl⟩) (r_recv hK hw (k := 0) (ci := 8) rfl rfl) [0, 1, 2, 3, 4, 5, 6, 7, 8] rfl rfl rfl hl.1 rfl (Nat.le_of_ble_eq_true rfl) dX9_turn_2 ⟨Nat.le_of_ble_eq_true rfl, Nat.le_of_ble_eq_true rfl⟩) cx hw [0, 1, 2, 3, 4, 5, 6, 7, 8] rfl rfl rfl (ws' := WM g a s m im wa L R rf nu hi lm rn pl sd) (rfl) (fun H locs hw => ?_)
    refine W.eq (g2 := F0 m9 5 ls [.int (bI (psB s p))]) rfl ?_
    refine lv_if_ne (tgt := 12) hx hb dX9_turn_5 (by decide) (fun c_5 => absurd c_5 (by rw [hps_p]; decide)) (fun c_5 => ?_)
    refine lv_iconst (v := (-1)) hx hb dX9_turn_8 (by decide) ?_
    refine lv_goto (tgt := 33) hx hb dX9_turn_9 (by decide) ?_
    refine lv_istore (lv' := [(4, .int (-1)), (0, .ref (a 0)), (1, .int p), (2, .int k9), (3, .int f)]) hx hb dX9_turn_33 hl (by decide) rfl (fun ls hl => ?_)
    refine lv_iload hx hb dX9_turn_35 (lv_at hl 0 rfl) ?_
    refine lv_if_eq (tgt := 47) hx hb dX9_turn_37 (by decide) (fun c_37 => absurd c_37 (by decide)) (fun c_37 => ?_)
    refine lv_aload_n hx hb dX9_turn_40 rfl (lv_at hl 1 rfl) ?_
    refine lv_iload hx hb dX9_turn_41 (lv_at hl 0 rfl) ?_
    refine r_det (r_V cx hw (kX9_no l hl9 g a s m im wa L R rf nu hi lm rn pl sd (-1) (by unfold okC; decide)) (cwV 1 hts (lw_V q1213 q1215 qs65 q94 q1216) rfl rfl rfl (by decide +kernel) ⟨Nat.le_of_ble_eq_true rfl, Nat.le_of_ble_eq_true rfl⟩) (r_recv hK hw (k := 0) (ci := 8) rfl rfl) [0, 1, 2, 3, 4, 5, 6, 7, 8] rfl rfl rfl hl.1 rfl (Nat.le_of_ble_eq_true rfl) dX9_turn_43 ⟨Nat.le_of_ble_eq_true rfl, Nat.le_of_ble_eq_true rfl⟩) cx hw [0, 1, 2, 3, 4, 5, 6, 7, 8] rfl rfl rfl (ws' := WM g a s m im wa L R (rfU rf (-1)) nu hi lm rn pl sd) (rfl) (fun H locs hw => ?_)
    refine W.eq (g2 := F0 m9 46 ls [.int (-1)]) rfl ?_
    exact r_iret cx hw (⟨_, by rw [ans_n hne, hW], by rw [rfA_n hne, sA_n hne, hW]⟩) (Nat.le_of_ble_eq_true rfl) (Nat.le_of_ble_eq_true rfl) dX9_turn_46

set_option maxHeartbeats 4000000 in
set_option maxRecDepth 100000 in
theorem kX9_hours (l : Launch) (hl9 : l.stackTraces = false) (g : GG) (a : Nat → Nat) (s m im wa L R rf nu : Nat → Int32) (hi lm rn pl sd : Int32) (hI : InvM s) (n : Int32) : MC l yX9_hours cX9_hours 2 (some .int) 5 111 0 0 g [.ref (a 0), .int n] (WM g a s m im wa L R rf nu hi lm rn pl sd) (rtE (α := Nat → Int32) (some (.int (ans (wHrs s n) (hoursF s (tN n) 2)))) (fun x9 => WM g a (sA (wHrs s n) (hoursF s (tN n)) s) x9 im wa L R (rfA (wHrs s n) rf) nu hi lm rn pl sd)) (noX) := by
  by_cases h1 : n < 1
  · skip
    have hW : wHrs s n = -4 := by simp [wHrs, h1]
    have hne : ¬ wHrs s n = 0 := by rw [hW]; decide
    refine MC.of (by decide) (Nat.le_of_ble_eq_true rfl) ?_
    intro p9 e9 s9 m9 args9 below9 meth9 c9 A9 ls cx htab hw hl
    have hx := cx.1
    have hb := cx.2.1
    have hts := cx.2.2.2.2.1
    have hK := cx.2.2.2.2.2.2.2.1
    have hl : lv_has ls 2 [(0, .ref (a 0)), (1, .int n)] := hl
    refine lv_iload_n hx hb dX9_hours_0 rfl (lv_at hl 1 rfl) ?_
    refine lv_iconst (v := 1) hx hb dX9_hours_1 (by decide) ?_
    refine lv_icmp_ge (tgt := 12) hx hb dX9_hours_2 (by decide) (fun c_9 => absurd h1 (Int32.not_lt.mpr c_9)) (fun c_9 => ?_)
    refine lv_aload_n hx hb dX9_hours_5 rfl (lv_at hl 0 rfl) ?_
    refine lv_bipush (v := (-4)) hx hb dX9_hours_6 (by decide) ?_
    refine r_det (r_V cx hw (kX9_no l hl9 g a s m im wa L R rf nu hi lm rn pl sd (-4) (by unfold okC; decide)) (cwV 1 hts (lw_V q1213 q1215 qs65 q94 q1216) rfl rfl rfl (by decide +kernel) ⟨Nat.le_of_ble_eq_true rfl, Nat.le_of_ble_eq_true rfl⟩) (r_recv hK hw (k := 0) (ci := 8) rfl rfl) [0, 1, 2, 3, 4, 5, 6, 7, 8] rfl rfl rfl hl.1 rfl (Nat.le_of_ble_eq_true rfl) dX9_hours_8 ⟨Nat.le_of_ble_eq_true rfl, Nat.le_of_ble_eq_true rfl⟩) cx hw [0, 1, 2, 3, 4, 5, 6, 7, 8] rfl rfl rfl (ws' := WM g a s m im wa L R (rfU rf (-4)) nu hi lm rn pl sd) (rfl) (fun H locs hw => ?_)
    refine W.eq (g2 := F0 m9 11 ls [.int (-4)]) rfl ?_
    exact r_iret cx hw (⟨_, by rw [ans_n hne, hW], by rw [rfA_n hne, sA_n hne, hW]⟩) (Nat.le_of_ble_eq_true rfl) (Nat.le_of_ble_eq_true rfl) dX9_hours_11
  · skip
    by_cases h2 : 60 < n
    · skip
      have hW : wHrs s n = -6 := by simp [wHrs, h1, h2]
      have hne : ¬ wHrs s n = 0 := by rw [hW]; decide
      refine MC.of (by decide) (Nat.le_of_ble_eq_true rfl) ?_
      intro p9 e9 s9 m9 args9 below9 meth9 c9 A9 ls cx htab hw hl
      have hx := cx.1
      have hb := cx.2.1
      have hts := cx.2.2.2.2.1
      have hK := cx.2.2.2.2.2.2.2.1
      have hl : lv_has ls 2 [(0, .ref (a 0)), (1, .int n)] := hl
      refine lv_iload_n hx hb dX9_hours_0 rfl (lv_at hl 1 rfl) ?_
      refine lv_iconst (v := 1) hx hb dX9_hours_1 (by decide) ?_
      refine lv_icmp_ge (tgt := 12) hx hb dX9_hours_2 (by decide) (fun c_9 => ?_) (fun c_9 => absurd (Int32.not_lt.mp h1) c_9)
      refine lv_iload_n hx hb dX9_hours_12 rfl (lv_at hl 1 rfl) ?_
      refine lv_bipush (v := 60) hx hb dX9_hours_13 (by decide) ?_
      refine lv_icmp_gt (tgt := 32) hx hb dX9_hours_15 (by decide) (fun c_9 => ?_) (fun c_9 => absurd h2 c_9)
      refine lv_aload_n hx hb dX9_hours_32 rfl (lv_at hl 0 rfl) ?_
      refine lv_bipush (v := (-6)) hx hb dX9_hours_33 (by decide) ?_
      refine r_det (r_V cx hw (kX9_no l hl9 g a s m im wa L R rf nu hi lm rn pl sd (-6) (by unfold okC; decide)) (cwV 1 hts (lw_V q1213 q1215 qs65 q94 q1216) rfl rfl rfl (by decide +kernel) ⟨Nat.le_of_ble_eq_true rfl, Nat.le_of_ble_eq_true rfl⟩) (r_recv hK hw (k := 0) (ci := 8) rfl rfl) [0, 1, 2, 3, 4, 5, 6, 7, 8] rfl rfl rfl hl.1 rfl (Nat.le_of_ble_eq_true rfl) dX9_hours_35 ⟨Nat.le_of_ble_eq_true rfl, Nat.le_of_ble_eq_true rfl⟩) cx hw [0, 1, 2, 3, 4, 5, 6, 7, 8] rfl rfl rfl (ws' := WM g a s m im wa L R (rfU rf (-6)) nu hi lm rn pl sd) (rfl) (fun H locs hw => ?_)
      refine W.eq (g2 := F0 m9 38 ls [.int (-6)]) rfl ?_
      exact r_iret cx hw (⟨_, by rw [ans_n hne, hW], by rw [rfA_n hne, sA_n hne, hW]⟩) (Nat.le_of_ble_eq_true rfl) (Nat.le_of_ble_eq_true rfl) dX9_hours_38
    · skip
      by_cases h3 : 999 < s 1 + n
      · skip
        have hW : wHrs s n = -6 := by simp [wHrs, h1, h2, h3]
        have hne : ¬ wHrs s n = 0 := by rw [hW]; decide
        refine MC.of (by decide) (Nat.le_of_ble_eq_true rfl) ?_
        intro p9 e9 s9 m9 args9 below9 meth9 c9 A9 ls cx htab hw hl
        have hx := cx.1
        have hb := cx.2.1
        have hts := cx.2.2.2.2.1
        have hK := cx.2.2.2.2.2.2.2.1
        have hl : lv_has ls 2 [(0, .ref (a 0)), (1, .int n)] := hl
        refine lv_iload_n hx hb dX9_hours_0 rfl (lv_at hl 1 rfl) ?_
        refine lv_iconst (v := 1) hx hb dX9_hours_1 (by decide) ?_
        refine lv_icmp_ge (tgt := 12) hx hb dX9_hours_2 (by decide) (fun c_9 => ?_) (fun c_9 => absurd (Int32.not_lt.mp h1) c_9)
        refine lv_iload_n hx hb dX9_hours_12 rfl (lv_at hl 1 rfl) ?_
        refine lv_bipush (v := 60) hx hb dX9_hours_13 (by decide) ?_
        refine lv_icmp_gt (tgt := 32) hx hb dX9_hours_15 (by decide) (fun c_9 => absurd c_9 h2) (fun c_9 => ?_)
        refine lv_aload_n hx hb dX9_hours_18 rfl (lv_at hl 0 rfl) ?_
        refine r_get cx hw in_X9 0 (ci := 8) (T := TX9) (N := 13) rfl rfl 0 (by decide) q1169 (fun _ h9 => h9) rfl dX9_hours_19 ?_
        refine lv_iconst (v := 1) hx hb dX9_hours_22 (by decide) ?_
        refine r_iald cx hw 1 rfl 1 rfl (by omega) (Nat.le_of_ble_eq_true rfl) dX9_hours_23 ?_
        refine lv_iload_n hx hb dX9_hours_24 rfl (lv_at hl 1 rfl) ?_
        refine lv_iadd hx hb dX9_hours_25 ?_
        refine lv_sipush (v := 999) hx hb dX9_hours_26 (by decide) ?_
        refine lv_icmp_le (tgt := 39) hx hb dX9_hours_29 (by decide) (fun c_9 => absurd h3 (Int32.not_lt.mpr c_9)) (fun c_9 => ?_)
        refine lv_aload_n hx hb dX9_hours_32 rfl (lv_at hl 0 rfl) ?_
        refine lv_bipush (v := (-6)) hx hb dX9_hours_33 (by decide) ?_
        refine r_det (r_V cx hw (kX9_no l hl9 g a s m im wa L R rf nu hi lm rn pl sd (-6) (by unfold okC; decide)) (cwV 1 hts (lw_V q1213 q1215 qs65 q94 q1216) rfl rfl rfl (by decide +kernel) ⟨Nat.le_of_ble_eq_true rfl, Nat.le_of_ble_eq_true rfl⟩) (r_recv hK hw (k := 0) (ci := 8) rfl rfl) [0, 1, 2, 3, 4, 5, 6, 7, 8] rfl rfl rfl hl.1 rfl (Nat.le_of_ble_eq_true rfl) dX9_hours_35 ⟨Nat.le_of_ble_eq_true rfl, Nat.le_of_ble_eq_true rfl⟩) cx hw [0, 1, 2, 3, 4, 5, 6, 7, 8] rfl rfl rfl (ws' := WM g a s m im wa L R (rfU rf (-6)) nu hi lm rn pl sd) (rfl) (fun H locs hw => ?_)
        refine W.eq (g2 := F0 m9 38 ls [.int (-6)]) rfl ?_
        exact r_iret cx hw (⟨_, by rw [ans_n hne, hW], by rw [rfA_n hne, sA_n hne, hW]⟩) (Nat.le_of_ble_eq_true rfl) (Nat.le_of_ble_eq_true rfl) dX9_hours_38
      · skip
        obtain ⟨q, hq, rfl⟩ := nI_rng (M := 60) (by decide) (Int32.le_trans (by decide) (Int32.not_lt.mp h1)) (Int32.not_lt.mp h2)
        have eq9 : tN (nI q) = q := tN_nI (by omega)
        have hW : wHrs s (nI q) = 0 := by simp [wHrs, h1, h2, h3]
        refine MC.of (by decide) (Nat.le_of_ble_eq_true rfl) ?_
        intro p9 e9 s9 m9 args9 below9 meth9 c9 A9 ls cx htab hw hl
        have hx := cx.1
        have hb := cx.2.1
        have hts := cx.2.2.2.2.1
        have hK := cx.2.2.2.2.2.2.2.1
        have hl : lv_has ls 2 [(0, .ref (a 0)), (1, .int (nI q))] := hl
        refine lv_iload_n hx hb dX9_hours_0 rfl (lv_at hl 1 rfl) ?_
        refine lv_iconst (v := 1) hx hb dX9_hours_1 (by decide) ?_
        refine lv_icmp_ge (tgt := 12) hx hb dX9_hours_2 (by decide) (fun c_9 => ?_) (fun c_9 => absurd (Int32.not_lt.mp h1) c_9)
        refine lv_iload_n hx hb dX9_hours_12 rfl (lv_at hl 1 rfl) ?_
        refine lv_bipush (v := 60) hx hb dX9_hours_13 (by decide) ?_
        refine lv_icmp_gt (tgt := 32) hx hb dX9_hours_15 (by decide) (fun c_9 => absurd c_9 h2) (fun c_9 => ?_)
        refine lv_aload_n hx hb dX9_hours_18 rfl (lv_at hl 0 rfl) ?_
        refine r_get cx hw in_X9 0 (ci := 8) (T := TX9) (N := 13) rfl rfl 0 (by decide) q1169 (fun _ h9 => h9) rfl dX9_hours_19 ?_
        refine lv_iconst (v := 1) hx hb dX9_hours_22 (by decide) ?_
        refine r_iald cx hw 1 rfl 1 rfl (by omega) (Nat.le_of_ble_eq_true rfl) dX9_hours_23 ?_
        refine lv_iload_n hx hb dX9_hours_24 rfl (lv_at hl 1 rfl) ?_
        refine lv_iadd hx hb dX9_hours_25 ?_
        refine lv_sipush (v := 999) hx hb dX9_hours_26 (by decide) ?_
        refine lv_icmp_le (tgt := 39) hx hb dX9_hours_29 (by decide) (fun c_9 => ?_) (fun c_9 => absurd (Int32.not_lt.mp h3) c_9)
        refine lv_aload_n hx hb dX9_hours_39 rfl (lv_at hl 0 rfl) ?_
        refine r_get cx hw in_X9 0 (ci := 8) (T := TX9) (N := 13) rfl rfl 0 (by decide) q1169 (fun _ h9 => h9) rfl dX9_hours_40 ?_
        refine lv_iload_n hx hb dX9_hours_43 rfl (lv_at hl 1 rfl) ?_
        refine r_det (r_S cx hw (kX9_hoursOn l hl9 g (a 1) s hI q (by omega)) (va_cwS 2 hts (lw_S q1261 q1262 q94 q1263) rfl rfl rfl (by decide +kernel) ⟨Nat.le_of_ble_eq_true rfl, Nat.le_of_ble_eq_true rfl⟩) [1] rfl rfl rfl hl.1 rfl (Nat.le_of_ble_eq_true rfl) dX9_hours_44 ⟨Nat.le_of_ble_eq_true rfl, Nat.le_of_ble_eq_true rfl⟩) cx hw [1] rfl rfl rfl (ws' := WM g a (hoursF s q) m im wa L R rf nu hi lm rn pl sd) (rfl) (fun H locs hw => ?_)
        refine W.eq (g2 := F0 m9 47 ls []) rfl ?_
        refine lv_aload_n hx hb dX9_hours_47 rfl (lv_at hl 0 rfl) ?_
        refine r_get cx hw in_X9 0 (ci := 8) (T := TX9) (N := 13) rfl rfl 0 (by decide) q1169 (fun _ h9 => h9) rfl dX9_hours_48 ?_
        refine lv_iconst (v := 2) hx hb dX9_hours_51 (by decide) ?_
        refine r_iald cx hw 1 rfl 2 rfl (by omega) (Nat.le_of_ble_eq_true rfl) dX9_hours_52 ?_
        exact r_iret cx hw (⟨_, by rw [hW, ans_0]; rw [eq9], by rw [hW, rfA_0, sA_0, eq9]⟩) (Nat.le_of_ble_eq_true rfl) (Nat.le_of_ble_eq_true rfl) dX9_hours_53

set_option maxHeartbeats 4000000 in
set_option maxRecDepth 100000 in
theorem kX9_hasThen (l : Launch) (hl9 : l.stackTraces = false) (g : GG) (a : Nat → Nat) (s m im wa L R rf nu : Nat → Int32) (hi lm rn pl sd : Int32) (hI : InvM s) (p n : Int32) : MC l yX9_hasThen cX9_hasThen 4 (some .int) 6 132 0 0 g [.ref (a 0), .int p, .int n] (WM g a s m im wa L R rf nu hi lm rn pl sd) (rtE (α := Nat → Int32) (some (.int (ans (wOf s p n 60) (hoursF s (tN n) (5 + 7 * tN p + 3))))) (fun x9 => WM g a s x9 im wa L R (rfA (wOf s p n 60) rf) nu hi lm rn pl sd)) (noX) := by
  by_cases hps_p : psB s p = true
  · skip
    obtain ⟨k, hk, rfl⟩ := psB_rng hI hps_p
    have hN := hI.1
    have ek : tN (nI k) = k := tN_nI (by omega)
    by_cases hwr_n : wrF n 0 60 = 0
    · skip
      obtain ⟨q, hq, rfl⟩ := nI_rng (M := 60) (by decide) (Int32.le_trans (by decide) (wrF_0 hwr_n).1) (wrF_0 hwr_n).2
      have eq : tN (nI q) = q := tN_nI (by omega)
      have hW : wOf s (nI k) (nI q) 60 = 0 := by simp [wOf, hps_p, hwr_n]
      refine MC.of (by decide) (Nat.le_of_ble_eq_true rfl) ?_
      intro p9 e9 s9 m9 args9 below9 meth9 c9 A9 ls cx htab hw hl
      have hx := cx.1
      have hb := cx.2.1
      have hts := cx.2.2.2.2.1
      have hK := cx.2.2.2.2.2.2.2.1
      have hl : lv_has ls 4 [(0, .ref (a 0)), (1, .int (nI k)), (2, .int (nI q))] := hl
      refine lv_aload_n hx hb dX9_hasThen_0 rfl (lv_at hl 0 rfl) ?_
      refine lv_iload_n hx hb dX9_hasThen_1 rfl (lv_at hl 1 rfl) ?_
      refine r_det (r_V cx hw (kX9_isPerson l hl9 g a s m im wa L R rf nu hi lm rn pl sd (nI k)) (cwV 1 hts (lw_V q1257 q1259 qs72 q94 q1260) rfl rfl rfl (by decide +kernel) ⟨Nat.le_of_ble_eq_true rfl, Nat.le_of_ble_eq_true rfl⟩) (r_recv hK hw (k := 0) (ci := 8) rfl rfl) [0, 1, 2, 3, 4, 5, 6, 7, 8] rfl rfl rfl hl.1 rfl (Nat.le_of_ble_eq_true rfl) dX9_hasThen_2 ⟨Nat.le_of_ble_eq_true rfl, Nat.le_of_ble_eq_true rfl⟩) cx hw [0, 1, 2, 3, 4, 5, 6, 7, 8] rfl rfl rfl (ws' := WM g a s m im wa L R rf nu hi lm rn pl sd) (rfl) (fun H locs hw => ?_)
      refine W.eq (g2 := F0 m9 5 ls [.int (bI (psB s (nI k)))]) rfl ?_
      refine lv_if_eq (tgt := 18) hx hb dX9_hasThen_5 (by decide) (fun c_5 => absurd c_5 (by rw [hps_p]; decide)) (fun c_5 => ?_)
      refine lv_iload_n hx hb dX9_hasThen_8 rfl (lv_at hl 2 rfl) ?_
      refine lv_iconst (v := 0) hx hb dX9_hasThen_9 (by decide) ?_
      refine lv_bipush (v := 60) hx hb dX9_hasThen_10 (by decide) ?_
      refine r_det (r_S cx hw (kX9_wrongBy l hl9 g (nI q) 0 60) (va_cwS 3 hts (lw_S q1318 q1319 q94 q1320) rfl rfl rfl (by decide +kernel) ⟨Nat.le_of_ble_eq_true rfl, Nat.le_of_ble_eq_true rfl⟩) [] rfl rfl rfl hl.1 rfl (Nat.le_of_ble_eq_true rfl) dX9_hasThen_12 ⟨Nat.le_of_ble_eq_true rfl, Nat.le_of_ble_eq_true rfl⟩) cx hw [] rfl rfl rfl (ws' := WM g a s m im wa L R rf nu hi lm rn pl sd) (rfl) (fun H locs hw => ?_)
      refine W.eq (g2 := F0 m9 15 ls [.int (wrF (nI q) 0 60)]) rfl ?_
      refine lv_goto (tgt := 19) hx hb dX9_hasThen_15 (by decide) ?_
      refine lv_istore_n (lv' := [(3, .int (wrF (nI q) 0 60)), (0, .ref (a 0)), (1, .int (nI k)), (2, .int (nI q))]) hx hb dX9_hasThen_19 rfl hl (by decide) rfl (fun ls hl => ?_)
      refine lv_iload_n hx hb dX9_hasThen_20 rfl (lv_at hl 0 rfl) ?_
      refine lv_if_eq (tgt := 30) hx hb dX9_hasThen_21 (by decide) (fun c_21 => ?_) (fun c_21 => absurd hwr_n c_21)
      refine lv_aload_n hx hb dX9_hasThen_30 rfl (lv_at hl 1 rfl) ?_
      refine lv_iload_n hx hb dX9_hasThen_31 rfl (lv_at hl 3 rfl) ?_
      refine r_det (r_V cx hw (kX9_takes l hl9 g a s m im wa L R rf nu hi lm rn pl sd hI q (by omega)) (cwV 1 hts (lw_V q1349 q1351 qs76 q94 q1352) rfl rfl rfl (by decide +kernel) ⟨Nat.le_of_ble_eq_true rfl, Nat.le_of_ble_eq_true rfl⟩) (r_recv hK hw (k := 0) (ci := 8) rfl rfl) [0, 1, 2, 3, 4, 5, 6, 7, 8] rfl rfl rfl hl.1 rfl (Nat.le_of_ble_eq_true rfl) dX9_hasThen_32 ⟨Nat.le_of_ble_eq_true rfl, Nat.le_of_ble_eq_true rfl⟩) cx hw [0, 1, 2, 3, 4, 5, 6, 7, 8] rfl rfl rfl (ws' := WM g a s (hoursF s q) im wa L R rf nu hi lm rn pl sd) (rfl) (fun H locs hw => ?_)
      refine W.eq (g2 := F0 m9 35 ls []) rfl ?_
      refine lv_aload_n hx hb dX9_hasThen_35 rfl (lv_at hl 1 rfl) ?_
      refine r_get cx hw in_X9 0 (ci := 8) (T := TX9) (N := 13) rfl rfl 1 (by decide) q1170 (fun _ h9 => h9) rfl dX9_hasThen_36 ?_
      refine lv_iload_n hx hb dX9_hasThen_39 rfl (lv_at hl 2 rfl) ?_
      refine lv_iconst (v := 3) hx hb dX9_hasThen_40 (by decide) ?_
      refine r_det (r_S cx hw (kX9_of l hl9 g k 3) (va_cwS 2 hts (lw_S q1254 q1255 q94 q1256) rfl rfl rfl (by decide +kernel) ⟨Nat.le_of_ble_eq_true rfl, Nat.le_of_ble_eq_true rfl⟩) [] rfl rfl rfl hl.1 rfl (Nat.le_of_ble_eq_true rfl) dX9_hasThen_41 ⟨Nat.le_of_ble_eq_true rfl, Nat.le_of_ble_eq_true rfl⟩) cx hw [] rfl rfl rfl (ws' := WM g a s (hoursF s q) im wa L R rf nu hi lm rn pl sd) (rfl) (fun H locs hw => ?_)
      refine W.eq (g2 := F0 m9 44 ls [.int (nI (5 + 7 * k + 3)), .ref (a 2)]) rfl ?_
      refine r_iald cx hw 2 rfl (5 + 7 * k + 3) rfl (by omega) (Nat.le_of_ble_eq_true rfl) dX9_hasThen_44 ?_
      exact r_iret cx hw (⟨_, by rw [hW, ans_0]; rw [ek, eq], by rw [hW, rfA_0]⟩) (Nat.le_of_ble_eq_true rfl) (Nat.le_of_ble_eq_true rfl) dX9_hasThen_45
    · skip
      have hW : wOf s (nI k) n 60 = wrF n 0 60 := by simp [wOf, hps_p, hwr_n]
      have hne : ¬ wOf s (nI k) n 60 = 0 := by rw [hW]; exact hwr_n
      refine MC.of (by decide) (Nat.le_of_ble_eq_true rfl) ?_
      intro p9 e9 s9 m9 args9 below9 meth9 c9 A9 ls cx htab hw hl
      have hx := cx.1
      have hb := cx.2.1
      have hts := cx.2.2.2.2.1
      have hK := cx.2.2.2.2.2.2.2.1
      have hl : lv_has ls 4 [(0, .ref (a 0)), (1, .int (nI k)), (2, .int n)] := hl
      refine lv_aload_n hx hb dX9_hasThen_0 rfl (lv_at hl 0 rfl) ?_
      refine lv_iload_n hx hb dX9_hasThen_1 rfl (lv_at hl 1 rfl) ?_
      refine r_det (r_V cx hw (kX9_isPerson l hl9 g a s m im wa L R rf nu hi lm rn pl sd (nI k)) (cwV 1 hts (lw_V q1257 q1259 qs72 q94 q1260) rfl rfl rfl (by decide +kernel) ⟨Nat.le_of_ble_eq_true rfl, Nat.le_of_ble_eq_true rfl⟩) (r_recv hK hw (k := 0) (ci := 8) rfl rfl) [0, 1, 2, 3, 4, 5, 6, 7, 8] rfl rfl rfl hl.1 rfl (Nat.le_of_ble_eq_true rfl) dX9_hasThen_2 ⟨Nat.le_of_ble_eq_true rfl, Nat.le_of_ble_eq_true rfl⟩) cx hw [0, 1, 2, 3, 4, 5, 6, 7, 8] rfl rfl rfl (ws' := WM g a s m im wa L R rf nu hi lm rn pl sd) (rfl) (fun H locs hw => ?_)
      refine W.eq (g2 := F0 m9 5 ls [.int (bI (psB s (nI k)))]) rfl ?_
      refine lv_if_eq (tgt := 18) hx hb dX9_hasThen_5 (by decide) (fun c_5 => absurd c_5 (by rw [hps_p]; decide)) (fun c_5 => ?_)
      refine lv_iload_n hx hb dX9_hasThen_8 rfl (lv_at hl 2 rfl) ?_
      refine lv_iconst (v := 0) hx hb dX9_hasThen_9 (by decide) ?_
      refine lv_bipush (v := 60) hx hb dX9_hasThen_10 (by decide) ?_
      refine r_det (r_S cx hw (kX9_wrongBy l hl9 g n 0 60) (va_cwS 3 hts (lw_S q1318 q1319 q94 q1320) rfl rfl rfl (by decide +kernel) ⟨Nat.le_of_ble_eq_true rfl, Nat.le_of_ble_eq_true rfl⟩) [] rfl rfl rfl hl.1 rfl (Nat.le_of_ble_eq_true rfl) dX9_hasThen_12 ⟨Nat.le_of_ble_eq_true rfl, Nat.le_of_ble_eq_true rfl⟩) cx hw [] rfl rfl rfl (ws' := WM g a s m im wa L R rf nu hi lm rn pl sd) (rfl) (fun H locs hw => ?_)
      refine W.eq (g2 := F0 m9 15 ls [.int (wrF n 0 60)]) rfl ?_
      refine lv_goto (tgt := 19) hx hb dX9_hasThen_15 (by decide) ?_
      refine lv_istore_n (lv' := [(3, .int (wrF n 0 60)), (0, .ref (a 0)), (1, .int (nI k)), (2, .int n)]) hx hb dX9_hasThen_19 rfl hl (by decide) rfl (fun ls hl => ?_)
      refine lv_iload_n hx hb dX9_hasThen_20 rfl (lv_at hl 0 rfl) ?_
      refine lv_if_eq (tgt := 30) hx hb dX9_hasThen_21 (by decide) (fun c_21 => absurd c_21 hwr_n) (fun c_21 => ?_)
      refine lv_aload_n hx hb dX9_hasThen_24 rfl (lv_at hl 1 rfl) ?_
      refine lv_iload_n hx hb dX9_hasThen_25 rfl (lv_at hl 0 rfl) ?_
      refine r_det (r_V cx hw (kX9_no l hl9 g a s m im wa L R rf nu hi lm rn pl sd (wrF n 0 60) (wrF_ok hwr_n)) (cwV 1 hts (lw_V q1213 q1215 qs65 q94 q1216) rfl rfl rfl (by decide +kernel) ⟨Nat.le_of_ble_eq_true rfl, Nat.le_of_ble_eq_true rfl⟩) (r_recv hK hw (k := 0) (ci := 8) rfl rfl) [0, 1, 2, 3, 4, 5, 6, 7, 8] rfl rfl rfl hl.1 rfl (Nat.le_of_ble_eq_true rfl) dX9_hasThen_26 ⟨Nat.le_of_ble_eq_true rfl, Nat.le_of_ble_eq_true rfl⟩) cx hw [0, 1, 2, 3, 4, 5, 6, 7, 8] rfl rfl rfl (ws' := WM g a s m im wa L R (rfU rf (wrF n 0 60)) nu hi lm rn pl sd) (rfl) (fun H locs hw => ?_)
      refine W.eq (g2 := F0 m9 29 ls [.int (wrF n 0 60)]) rfl ?_
      exact r_iret cx hw (⟨_, by rw [ans_n hne, hW], by rw [rfA_n hne, hW]⟩) (Nat.le_of_ble_eq_true rfl) (Nat.le_of_ble_eq_true rfl) dX9_hasThen_29
  · skip
    have hps_p : psB s p = false := by simpa using hps_p
    have hW : wOf s p n 60 = -1 := by simp [wOf, hps_p]
    have hne : ¬ wOf s p n 60 = 0 := by rw [hW]; decide
    refine MC.of (by decide) (Nat.le_of_ble_eq_true rfl) ?_
    intro p9 e9 s9 m9 args9 below9 meth9 c9 A9 ls cx htab hw hl
    have hx := cx.1
    have hb := cx.2.1
    have hts := cx.2.2.2.2.1
    have hK := cx.2.2.2.2.2.2.2.1
    have hl : lv_has ls 4 [(0, .ref (a 0)), (1, .int p), (2, .int n)] := hl
    refine lv_aload_n hx hb dX9_hasThen_0 rfl (lv_at hl 0 rfl) ?_
    refine lv_iload_n hx hb dX9_hasThen_1 rfl (lv_at hl 1 rfl) ?_
    refine r_det (r_V cx hw (kX9_isPerson l hl9 g a s m im wa L R rf nu hi lm rn pl sd p) (cwV 1 hts (lw_V q1257 q1259 qs72 q94 q1260) rfl rfl rfl (by decide +kernel) ⟨Nat.le_of_ble_eq_true rfl, Nat.le_of_ble_eq_true rfl⟩) (r_recv hK hw (k := 0) (ci := 8) rfl rfl) [0, 1, 2, 3, 4, 5, 6, 7, 8] rfl rfl rfl hl.1 rfl (Nat.le_of_ble_eq_true rfl) dX9_hasThen_2 ⟨Nat.le_of_ble_eq_true rfl, Nat.le_of_ble_eq_true rfl⟩) cx hw [0, 1, 2, 3, 4, 5, 6, 7, 8] rfl rfl rfl (ws' := WM g a s m im wa L R rf nu hi lm rn pl sd) (rfl) (fun H locs hw => ?_)
    refine W.eq (g2 := F0 m9 5 ls [.int (bI (psB s p))]) rfl ?_
    refine lv_if_eq (tgt := 18) hx hb dX9_hasThen_5 (by decide) (fun c_5 => ?_) (fun c_5 => absurd c_5 (by rw [hps_p]; decide))
    refine lv_iconst (v := (-1)) hx hb dX9_hasThen_18 (by decide) ?_
    refine lv_istore_n (lv' := [(3, .int (-1)), (0, .ref (a 0)), (1, .int p), (2, .int n)]) hx hb dX9_hasThen_19 rfl hl (by decide) rfl (fun ls hl => ?_)
    refine lv_iload_n hx hb dX9_hasThen_20 rfl (lv_at hl 0 rfl) ?_
    refine lv_if_eq (tgt := 30) hx hb dX9_hasThen_21 (by decide) (fun c_21 => absurd c_21 (by decide)) (fun c_21 => ?_)
    refine lv_aload_n hx hb dX9_hasThen_24 rfl (lv_at hl 1 rfl) ?_
    refine lv_iload_n hx hb dX9_hasThen_25 rfl (lv_at hl 0 rfl) ?_
    refine r_det (r_V cx hw (kX9_no l hl9 g a s m im wa L R rf nu hi lm rn pl sd (-1) (by unfold okC; decide)) (cwV 1 hts (lw_V q1213 q1215 qs65 q94 q1216) rfl rfl rfl (by decide +kernel) ⟨Nat.le_of_ble_eq_true rfl, Nat.le_of_ble_eq_true rfl⟩) (r_recv hK hw (k := 0) (ci := 8) rfl rfl) [0, 1, 2, 3, 4, 5, 6, 7, 8] rfl rfl rfl hl.1 rfl (Nat.le_of_ble_eq_true rfl) dX9_hasThen_26 ⟨Nat.le_of_ble_eq_true rfl, Nat.le_of_ble_eq_true rfl⟩) cx hw [0, 1, 2, 3, 4, 5, 6, 7, 8] rfl rfl rfl (ws' := WM g a s m im wa L R (rfU rf (-1)) nu hi lm rn pl sd) (rfl) (fun H locs hw => ?_)
    refine W.eq (g2 := F0 m9 29 ls [.int (-1)]) rfl ?_
    exact r_iret cx hw (⟨_, by rw [ans_n hne, hW], by rw [rfA_n hne, hW]⟩) (Nat.le_of_ble_eq_true rfl) (Nat.le_of_ble_eq_true rfl) dX9_hasThen_29
