/-! the reference: its methods, 5 -/
set_option maxRecDepth 100000
theorem WM_adr {g : GG} {a : Nat → Nat} {s m im wa L R rf nu s' m' im' wa' L' R' rf' nu' : Nat → Int32} {hi lm rn pl sd hi' lm' rn' pl' sd' : Int32} : ((WM g a s m im wa L R rf nu hi lm rn pl sd).take (WM g a s' m' im' wa' L' R' rf' nu' hi' lm' rn' pl' sd').length).map Prod.fst = (WM g a s' m' im' wa' L' R' rf' nu' hi' lm' rn' pl' sd').map Prod.fst := rfl
theorem nI_lm {t : Nat} (h2 : 2 ≤ t) (h : t ≤ 20) : (nI t - 1).toInt64 = lN (t - 1) := by
  rw [show (1 : Int32) = nI 1 from rfl, pk_sub (by omega), nI_l (by omega)]
set_option maxHeartbeats 4000000 in
set_option maxRecDepth 100000 in
theorem kX9_mean (l : Launch) (hl9 : l.stackTraces = false) (g : GG) (a : Nat → Nat) (s m im wa L R rf nu : Nat → Int32) (hi lm rn pl sd : Int32) (hI : InvM s) (w9 : Int32) (hA : allF s = nI (allN s)) (hA9 : allN s < 2 ^ 31) : MC l yX9_mean cX9_mean 2 (some .long) 2 53 0 0 g [.ref (a 0), .int w9] (WM g a s m im wa L R rf nu hi lm rn pl sd) (rtE (α := Nat → Int32) (some (.long (ansL (wBit w9) (ptN (allN s) (nN s) w9)))) (fun x9 => WM g a s x9 im wa L R (rfA (wBit w9) rf) nu hi lm rn pl sd)) (noX) := by
  by_cases hin_w9 : isInB w9 0 1 = true
  · skip
    have hW : wBit w9 = 0 := by simp [wBit, hin_w9]
    refine MC.of (by decide) (Nat.le_of_ble_eq_true rfl) ?_
    intro p9 e9 s9 m9 args9 below9 meth9 c9 A9 ls cx htab hw hl
    have hx := cx.1
    have hb := cx.2.1
    have hts := cx.2.2.2.2.1
    have hK := cx.2.2.2.2.2.2.2.1
    have hl : lv_has ls 2 [(0, .ref (a 0)), (1, .int w9)] := hl
    have hN := hI.1
    refine lv_iload_n hx hb dX9_mean_0 rfl (lv_at hl 1 rfl) ?_
    refine lv_iconst (v := 0) hx hb dX9_mean_1 (by decide) ?_
    refine lv_iconst (v := 1) hx hb dX9_mean_2 (by decide) ?_
    refine r_det (r_S cx hw (kX9_isIn l hl9 g w9 0 1) (va_cwS 3 hts (lw_S q1240 q1241 q94 q1242) rfl rfl rfl (by decide +kernel) ⟨Nat.le_of_ble_eq_true rfl, Nat.le_of_ble_eq_true rfl⟩) [] rfl rfl rfl hl.1 rfl (Nat.le_of_ble_eq_true rfl) dX9_mean_3 ⟨Nat.le_of_ble_eq_true rfl, Nat.le_of_ble_eq_true rfl⟩) cx hw [] rfl rfl rfl (ws' := WM g a s m im wa L R rf nu hi lm rn pl sd) (rfl) (fun H locs hw => ?_)
    refine W.eq (g2 := F0 m9 6 ls [.int (bI (isInB w9 0 1))]) rfl ?_
    refine lv_if_eq (tgt := 31) hx hb dX9_mean_6 (by decide) (fun c_6 => absurd c_6 (by rw [hin_w9]; decide)) (fun c_6 => ?_)
    refine lv_aload_n hx hb dX9_mean_9 rfl (lv_at hl 0 rfl) ?_
    refine r_get cx hw in_X9 0 (ci := 8) (T := TX9) (N := 13) rfl rfl 0 (by decide) q1169 (fun _ h9 => h9) rfl dX9_mean_10 ?_
    refine r_det (r_S cx hw (kX9_allHave l hl9 g (a 1) s hI) (va_cwS 1 hts (lw_S q1357 q1358 q94 q1359) rfl rfl rfl (by decide +kernel) ⟨Nat.le_of_ble_eq_true rfl, Nat.le_of_ble_eq_true rfl⟩) [1] rfl rfl rfl hl.1 rfl (Nat.le_of_ble_eq_true rfl) dX9_mean_13 ⟨Nat.le_of_ble_eq_true rfl, Nat.le_of_ble_eq_true rfl⟩) cx hw [1] rfl rfl rfl (ws' := WM g a s m im wa L R rf nu hi lm rn pl sd) (rfl) (fun H locs hw => ?_)
    refine W.eq (g2 := F0 m9 16 ls [.int (allF s)]) rfl ?_
    refine lv_i2l hx hb dX9_mean_16 rfl ?_
    refine r_topl (x' := lN (allN s)) (by rw [hA, nI_l hA9]) ?_
    refine lv_aload_n hx hb dX9_mean_17 rfl (lv_at hl 0 rfl) ?_
    refine r_get cx hw in_X9 0 (ci := 8) (T := TX9) (N := 13) rfl rfl 0 (by decide) q1169 (fun _ h9 => h9) rfl dX9_mean_18 ?_
    refine lv_iconst (v := 0) hx hb dX9_mean_21 (by decide) ?_
    refine r_iald cx hw 1 rfl 0 rfl (by omega) (Nat.le_of_ble_eq_true rfl) dX9_mean_22 ?_
    refine lv_i2l hx hb dX9_mean_23 rfl ?_
    refine r_topl (x' := lN (nN s)) (by rw [hI.2.1, nI_l (by omega)]) ?_
    refine lv_iload_n hx hb dX9_mean_24 rfl (lv_at hl 1 rfl) ?_
    refine r_det (r_S cx hw (kX9_partOf l hl9 g (allN s) (nN s) (by omega) (by omega) w9) (va_cwS 3 hts (lw_S q1460 q1461 q94 q1462) rfl rfl rfl (by decide +kernel) ⟨Nat.le_of_ble_eq_true rfl, Nat.le_of_ble_eq_true rfl⟩) [] rfl rfl rfl hl.1 rfl (Nat.le_of_ble_eq_true rfl) dX9_mean_25 ⟨Nat.le_of_ble_eq_true rfl, Nat.le_of_ble_eq_true rfl⟩) cx hw [] rfl rfl rfl (ws' := WM g a s m im wa L R rf nu hi lm rn pl sd) (rfl) (fun H locs hw => ?_)
    refine W.eq (g2 := F0 m9 28 ls [.long (ptN (allN s) (nN s) w9)]) rfl ?_
    refine lv_goto (tgt := 37) hx hb dX9_mean_28 (by decide) ?_
    exact r_lret cx hw (⟨_, by rw [hW, ansL_0], by rw [hW, rfA_0]⟩) (Nat.le_of_ble_eq_true rfl) (Nat.le_of_ble_eq_true rfl) dX9_mean_37
  · skip
    have hin_w9 : isInB w9 0 1 = false := by simpa using hin_w9
    have hW : wBit w9 = -2 := by simp [wBit, hin_w9]
    have hne : ¬ wBit w9 = 0 := by rw [hW]; decide
    refine MC.of (by decide) (Nat.le_of_ble_eq_true rfl) ?_
    intro p9 e9 s9 m9 args9 below9 meth9 c9 A9 ls cx htab hw hl
    have hx := cx.1
    have hb := cx.2.1
    have hts := cx.2.2.2.2.1
    have hK := cx.2.2.2.2.2.2.2.1
    have hl : lv_has ls 2 [(0, .ref (a 0)), (1, .int w9)] := hl
    refine lv_iload_n hx hb dX9_mean_0 rfl (lv_at hl 1 rfl) ?_
    refine lv_iconst (v := 0) hx hb dX9_mean_1 (by decide) ?_
    refine lv_iconst (v := 1) hx hb dX9_mean_2 (by decide) ?_
    refine r_det (r_S cx hw (kX9_isIn l hl9 g w9 0 1) (va_cwS 3 hts (lw_S q1240 q1241 q94 q1242) rfl rfl rfl (by decide +kernel) ⟨Nat.le_of_ble_eq_true rfl, Nat.le_of_ble_eq_true rfl⟩) [] rfl rfl rfl hl.1 rfl (Nat.le_of_ble_eq_true rfl) dX9_mean_3 ⟨Nat.le_of_ble_eq_true rfl, Nat.le_of_ble_eq_true rfl⟩) cx hw [] rfl rfl rfl (ws' := WM g a s m im wa L R rf nu hi lm rn pl sd) (rfl) (fun H locs hw => ?_)
    refine W.eq (g2 := F0 m9 6 ls [.int (bI (isInB w9 0 1))]) rfl ?_
    refine lv_if_eq (tgt := 31) hx hb dX9_mean_6 (by decide) (fun c_6 => ?_) (fun c_6 => absurd c_6 (by rw [hin_w9]; decide))
    refine lv_aload_n hx hb dX9_mean_31 rfl (lv_at hl 0 rfl) ?_
    refine lv_bipush (v := (-2)) hx hb dX9_mean_32 (by decide) ?_
    refine r_det (r_V cx hw (kX9_noWide l hl9 g a s m im wa L R rf nu hi lm rn pl sd (-2) (by unfold okC; decide)) (cwV 1 hts (lw_V q1455 q1457 qs82 q94 q1458) rfl rfl rfl (by decide +kernel) ⟨Nat.le_of_ble_eq_true rfl, Nat.le_of_ble_eq_true rfl⟩) (r_recv hK hw (k := 0) (ci := 8) rfl rfl) [0, 1, 2, 3, 4, 5, 6, 7, 8] rfl rfl rfl hl.1 rfl (Nat.le_of_ble_eq_true rfl) dX9_mean_34 ⟨Nat.le_of_ble_eq_true rfl, Nat.le_of_ble_eq_true rfl⟩) cx hw [0, 1, 2, 3, 4, 5, 6, 7, 8] rfl rfl rfl (ws' := WM g a s m im wa L R (rfU rf (-2)) nu hi lm rn pl sd) (rfl) (fun H locs hw => ?_)
    refine W.eq (g2 := F0 m9 37 ls [.long (4000000000000000000 - ((-2) : Int32).toInt64)]) rfl ?_
    exact r_lret cx hw (⟨_, by rw [ansL_n hne, hW], by rw [rfA_n hne, hW]⟩) (Nat.le_of_ble_eq_true rfl) (Nat.le_of_ble_eq_true rfl) dX9_mean_37

set_option maxHeartbeats 4000000 in
set_option maxRecDepth 100000 in
theorem kX9_sneeze (l : Launch) (hl9 : l.stackTraces = false) (g : GG) (a : Nat → Nat) (s m im wa L R rf nu : Nat → Int32) (hi lm rn pl sd : Int32) (hI : InvM s) (p n t v w9 : Int32) : MC l yX9_sneeze cX9_sneeze 14 (some .long) 4 89 0 0 g [.ref (a 0), .int p, .int n, .int t, .int v, .int w9] (WM g a s m im wa L R rf nu hi lm rn pl sd) (rtE (α := Nat → Int32) (some (.long (ansL (wSnz s p n t v w9) (vSnz s (tN p) (tN n) (tN t) v w9)))) (fun x9 => WM g a s x9 im wa L R (rfA (wSnz s p n t v w9) rf) nu hi lm rn pl sd)) (noX) := by
  by_cases hps_p : psB s p = true
  · skip
    obtain ⟨k, hk, rfl⟩ := psB_rng hI hps_p
    have hN := hI.1
    have ek : tN (nI k) = k := tN_nI (by omega)
    by_cases hz_n : n < 0
    · skip
      have hW : wSnz s (nI k) n t v w9 = -4 := by simp [wSnz, hps_p, hz_n]
      have hne : ¬ wSnz s (nI k) n t v w9 = 0 := by rw [hW]; decide
      refine MC.of (by decide) (Nat.le_of_ble_eq_true rfl) ?_
      intro p9 e9 s9 m9 args9 below9 meth9 c9 A9 ls cx htab hw hl
      have hx := cx.1
      have hb := cx.2.1
      have hts := cx.2.2.2.2.1
      have hK := cx.2.2.2.2.2.2.2.1
      have hl : lv_has ls 14 [(0, .ref (a 0)), (1, .int (nI k)), (2, .int n), (3, .int t), (4, .int v), (5, .int w9)] := hl
      refine lv_aload_n hx hb dX9_sneeze_0 rfl (lv_at hl 0 rfl) ?_
      refine lv_iload_n hx hb dX9_sneeze_1 rfl (lv_at hl 1 rfl) ?_
      refine r_det (r_V cx hw (kX9_isPerson l hl9 g a s m im wa L R rf nu hi lm rn pl sd (nI k)) (cwV 1 hts (lw_V q1257 q1259 qs72 q94 q1260) rfl rfl rfl (by decide +kernel) ⟨Nat.le_of_ble_eq_true rfl, Nat.le_of_ble_eq_true rfl⟩) (r_recv hK hw (k := 0) (ci := 8) rfl rfl) [0, 1, 2, 3, 4, 5, 6, 7, 8] rfl rfl rfl hl.1 rfl (Nat.le_of_ble_eq_true rfl) dX9_sneeze_2 ⟨Nat.le_of_ble_eq_true rfl, Nat.le_of_ble_eq_true rfl⟩) cx hw [0, 1, 2, 3, 4, 5, 6, 7, 8] rfl rfl rfl (ws' := WM g a s m im wa L R rf nu hi lm rn pl sd) (rfl) (fun H locs hw => ?_)
      refine W.eq (g2 := F0 m9 5 ls [.int (bI (psB s (nI k)))]) rfl ?_
      refine lv_if_ne (tgt := 14) hx hb dX9_sneeze_5 (by decide) (fun c_5 => ?_) (fun c_5 => absurd c_5 (by rw [hps_p]; decide))
      refine lv_iload_n hx hb dX9_sneeze_14 rfl (lv_at hl 2 rfl) ?_
      refine lv_if_lt (tgt := 28) hx hb dX9_sneeze_15 (by decide) (fun c_9 => ?_) (fun c_9 => absurd hz_n c_9)
      refine lv_aload_n hx hb dX9_sneeze_28 rfl (lv_at hl 0 rfl) ?_
      refine lv_bipush (v := (-4)) hx hb dX9_sneeze_29 (by decide) ?_
      refine r_det (r_V cx hw (kX9_noWide l hl9 g a s m im wa L R rf nu hi lm rn pl sd (-4) (by unfold okC; decide)) (cwV 1 hts (lw_V q1455 q1457 qs82 q94 q1458) rfl rfl rfl (by decide +kernel) ⟨Nat.le_of_ble_eq_true rfl, Nat.le_of_ble_eq_true rfl⟩) (r_recv hK hw (k := 0) (ci := 8) rfl rfl) [0, 1, 2, 3, 4, 5, 6, 7, 8] rfl rfl rfl hl.1 rfl (Nat.le_of_ble_eq_true rfl) dX9_sneeze_31 ⟨Nat.le_of_ble_eq_true rfl, Nat.le_of_ble_eq_true rfl⟩) cx hw [0, 1, 2, 3, 4, 5, 6, 7, 8] rfl rfl rfl (ws' := WM g a s m im wa L R (rfU rf (-4)) nu hi lm rn pl sd) (rfl) (fun H locs hw => ?_)
      refine W.eq (g2 := F0 m9 34 ls [.long (4000000000000000000 - ((-4) : Int32).toInt64)]) rfl ?_
      exact r_lret cx hw (⟨_, by rw [ansL_n hne, hW], by rw [rfA_n hne, hW]⟩) (Nat.le_of_ble_eq_true rfl) (Nat.le_of_ble_eq_true rfl) dX9_sneeze_34
    · skip
      by_cases hz_v : v < 0
      · skip
        have hW : wSnz s (nI k) n t v w9 = -4 := by simp [wSnz, hps_p, hz_n, hz_v]
        have hne : ¬ wSnz s (nI k) n t v w9 = 0 := by rw [hW]; decide
        refine MC.of (by decide) (Nat.le_of_ble_eq_true rfl) ?_
        intro p9 e9 s9 m9 args9 below9 meth9 c9 A9 ls cx htab hw hl
        have hx := cx.1
        have hb := cx.2.1
        have hts := cx.2.2.2.2.1
        have hK := cx.2.2.2.2.2.2.2.1
        have hl : lv_has ls 14 [(0, .ref (a 0)), (1, .int (nI k)), (2, .int n), (3, .int t), (4, .int v), (5, .int w9)] := hl
        refine lv_aload_n hx hb dX9_sneeze_0 rfl (lv_at hl 0 rfl) ?_
        refine lv_iload_n hx hb dX9_sneeze_1 rfl (lv_at hl 1 rfl) ?_
        refine r_det (r_V cx hw (kX9_isPerson l hl9 g a s m im wa L R rf nu hi lm rn pl sd (nI k)) (cwV 1 hts (lw_V q1257 q1259 qs72 q94 q1260) rfl rfl rfl (by decide +kernel) ⟨Nat.le_of_ble_eq_true rfl, Nat.le_of_ble_eq_true rfl⟩) (r_recv hK hw (k := 0) (ci := 8) rfl rfl) [0, 1, 2, 3, 4, 5, 6, 7, 8] rfl rfl rfl hl.1 rfl (Nat.le_of_ble_eq_true rfl) dX9_sneeze_2 ⟨Nat.le_of_ble_eq_true rfl, Nat.le_of_ble_eq_true rfl⟩) cx hw [0, 1, 2, 3, 4, 5, 6, 7, 8] rfl rfl rfl (ws' := WM g a s m im wa L R rf nu hi lm rn pl sd) (rfl) (fun H locs hw => ?_)
        refine W.eq (g2 := F0 m9 5 ls [.int (bI (psB s (nI k)))]) rfl ?_
        refine lv_if_ne (tgt := 14) hx hb dX9_sneeze_5 (by decide) (fun c_5 => ?_) (fun c_5 => absurd c_5 (by rw [hps_p]; decide))
        refine lv_iload_n hx hb dX9_sneeze_14 rfl (lv_at hl 2 rfl) ?_
        refine lv_if_lt (tgt := 28) hx hb dX9_sneeze_15 (by decide) (fun c_9 => absurd c_9 hz_n) (fun c_9 => ?_)
        refine lv_iload hx hb dX9_sneeze_18 (lv_at hl 4 rfl) ?_
        refine lv_if_lt (tgt := 28) hx hb dX9_sneeze_20 (by decide) (fun c_9 => ?_) (fun c_9 => absurd hz_v c_9)
        refine lv_aload_n hx hb dX9_sneeze_28 rfl (lv_at hl 0 rfl) ?_
        refine lv_bipush (v := (-4)) hx hb dX9_sneeze_29 (by decide) ?_
        refine r_det (r_V cx hw (kX9_noWide l hl9 g a s m im wa L R rf nu hi lm rn pl sd (-4) (by unfold okC; decide)) (cwV 1 hts (lw_V q1455 q1457 qs82 q94 q1458) rfl rfl rfl (by decide +kernel) ⟨Nat.le_of_ble_eq_true rfl, Nat.le_of_ble_eq_true rfl⟩) (r_recv hK hw (k := 0) (ci := 8) rfl rfl) [0, 1, 2, 3, 4, 5, 6, 7, 8] rfl rfl rfl hl.1 rfl (Nat.le_of_ble_eq_true rfl) dX9_sneeze_31 ⟨Nat.le_of_ble_eq_true rfl, Nat.le_of_ble_eq_true rfl⟩) cx hw [0, 1, 2, 3, 4, 5, 6, 7, 8] rfl rfl rfl (ws' := WM g a s m im wa L R (rfU rf (-4)) nu hi lm rn pl sd) (rfl) (fun H locs hw => ?_)
        refine W.eq (g2 := F0 m9 34 ls [.long (4000000000000000000 - ((-4) : Int32).toInt64)]) rfl ?_
        exact r_lret cx hw (⟨_, by rw [ansL_n hne, hW], by rw [rfA_n hne, hW]⟩) (Nat.le_of_ble_eq_true rfl) (Nat.le_of_ble_eq_true rfl) dX9_sneeze_34
      · skip
        by_cases h2 : t < 2
        · skip
          have hW : wSnz s (nI k) n t v w9 = -4 := by simp [wSnz, hps_p, hz_n, hz_v, h2]
          have hne : ¬ wSnz s (nI k) n t v w9 = 0 := by rw [hW]; decide
          refine MC.of (by decide) (Nat.le_of_ble_eq_true rfl) ?_
          intro p9 e9 s9 m9 args9 below9 meth9 c9 A9 ls cx htab hw hl
          have hx := cx.1
          have hb := cx.2.1
          have hts := cx.2.2.2.2.1
          have hK := cx.2.2.2.2.2.2.2.1
          have hl : lv_has ls 14 [(0, .ref (a 0)), (1, .int (nI k)), (2, .int n), (3, .int t), (4, .int v), (5, .int w9)] := hl
          refine lv_aload_n hx hb dX9_sneeze_0 rfl (lv_at hl 0 rfl) ?_
          refine lv_iload_n hx hb dX9_sneeze_1 rfl (lv_at hl 1 rfl) ?_
          refine r_det (r_V cx hw (kX9_isPerson l hl9 g a s m im wa L R rf nu hi lm rn pl sd (nI k)) (cwV 1 hts (lw_V q1257 q1259 qs72 q94 q1260) rfl rfl rfl (by decide +kernel) ⟨Nat.le_of_ble_eq_true rfl, Nat.le_of_ble_eq_true rfl⟩) (r_recv hK hw (k := 0) (ci := 8) rfl rfl) [0, 1, 2, 3, 4, 5, 6, 7, 8] rfl rfl rfl hl.1 rfl (Nat.le_of_ble_eq_true rfl) dX9_sneeze_2 ⟨Nat.le_of_ble_eq_true rfl, Nat.le_of_ble_eq_true rfl⟩) cx hw [0, 1, 2, 3, 4, 5, 6, 7, 8] rfl rfl rfl (ws' := WM g a s m im wa L R rf nu hi lm rn pl sd) (rfl) (fun H locs hw => ?_)
          refine W.eq (g2 := F0 m9 5 ls [.int (bI (psB s (nI k)))]) rfl ?_
          refine lv_if_ne (tgt := 14) hx hb dX9_sneeze_5 (by decide) (fun c_5 => ?_) (fun c_5 => absurd c_5 (by rw [hps_p]; decide))
          refine lv_iload_n hx hb dX9_sneeze_14 rfl (lv_at hl 2 rfl) ?_
          refine lv_if_lt (tgt := 28) hx hb dX9_sneeze_15 (by decide) (fun c_9 => absurd c_9 hz_n) (fun c_9 => ?_)
          refine lv_iload hx hb dX9_sneeze_18 (lv_at hl 4 rfl) ?_
          refine lv_if_lt (tgt := 28) hx hb dX9_sneeze_20 (by decide) (fun c_9 => absurd c_9 hz_v) (fun c_9 => ?_)
          refine lv_iload_n hx hb dX9_sneeze_23 rfl (lv_at hl 3 rfl) ?_
          refine lv_iconst (v := 2) hx hb dX9_sneeze_24 (by decide) ?_
          refine lv_icmp_ge (tgt := 35) hx hb dX9_sneeze_25 (by decide) (fun c_9 => absurd h2 (Int32.not_lt.mpr c_9)) (fun c_9 => ?_)
          refine lv_aload_n hx hb dX9_sneeze_28 rfl (lv_at hl 0 rfl) ?_
          refine lv_bipush (v := (-4)) hx hb dX9_sneeze_29 (by decide) ?_
          refine r_det (r_V cx hw (kX9_noWide l hl9 g a s m im wa L R rf nu hi lm rn pl sd (-4) (by unfold okC; decide)) (cwV 1 hts (lw_V q1455 q1457 qs82 q94 q1458) rfl rfl rfl (by decide +kernel) ⟨Nat.le_of_ble_eq_true rfl, Nat.le_of_ble_eq_true rfl⟩) (r_recv hK hw (k := 0) (ci := 8) rfl rfl) [0, 1, 2, 3, 4, 5, 6, 7, 8] rfl rfl rfl hl.1 rfl (Nat.le_of_ble_eq_true rfl) dX9_sneeze_31 ⟨Nat.le_of_ble_eq_true rfl, Nat.le_of_ble_eq_true rfl⟩) cx hw [0, 1, 2, 3, 4, 5, 6, 7, 8] rfl rfl rfl (ws' := WM g a s m im wa L R (rfU rf (-4)) nu hi lm rn pl sd) (rfl) (fun H locs hw => ?_)
          refine W.eq (g2 := F0 m9 34 ls [.long (4000000000000000000 - ((-4) : Int32).toInt64)]) rfl ?_
          exact r_lret cx hw (⟨_, by rw [ansL_n hne, hW], by rw [rfA_n hne, hW]⟩) (Nat.le_of_ble_eq_true rfl) (Nat.le_of_ble_eq_true rfl) dX9_sneeze_34
        · skip
          by_cases h7 : 7 < n
          · skip
            have hW : wSnz s (nI k) n t v w9 = -6 := by simp [wSnz, hps_p, hz_n, hz_v, h2, h7]
            have hne : ¬ wSnz s (nI k) n t v w9 = 0 := by rw [hW]; decide
            refine MC.of (by decide) (Nat.le_of_ble_eq_true rfl) ?_
            intro p9 e9 s9 m9 args9 below9 meth9 c9 A9 ls cx htab hw hl
            have hx := cx.1
            have hb := cx.2.1
            have hts := cx.2.2.2.2.1
            have hK := cx.2.2.2.2.2.2.2.1
            have hl : lv_has ls 14 [(0, .ref (a 0)), (1, .int (nI k)), (2, .int n), (3, .int t), (4, .int v), (5, .int w9)] := hl
            refine lv_aload_n hx hb dX9_sneeze_0 rfl (lv_at hl 0 rfl) ?_
            refine lv_iload_n hx hb dX9_sneeze_1 rfl (lv_at hl 1 rfl) ?_
            refine r_det (r_V cx hw (kX9_isPerson l hl9 g a s m im wa L R rf nu hi lm rn pl sd (nI k)) (cwV 1 hts (lw_V q1257 q1259 qs72 q94 q1260) rfl rfl rfl (by decide +kernel) ⟨Nat.le_of_ble_eq_true rfl, Nat.le_of_ble_eq_true rfl⟩) (r_recv hK hw (k := 0) (ci := 8) rfl rfl) [0, 1, 2, 3, 4, 5, 6, 7, 8] rfl rfl rfl hl.1 rfl (Nat.le_of_ble_eq_true rfl) dX9_sneeze_2 ⟨Nat.le_of_ble_eq_true rfl, Nat.le_of_ble_eq_true rfl⟩) cx hw [0, 1, 2, 3, 4, 5, 6, 7, 8] rfl rfl rfl (ws' := WM g a s m im wa L R rf nu hi lm rn pl sd) (rfl) (fun H locs hw => ?_)
            refine W.eq (g2 := F0 m9 5 ls [.int (bI (psB s (nI k)))]) rfl ?_
            refine lv_if_ne (tgt := 14) hx hb dX9_sneeze_5 (by decide) (fun c_5 => ?_) (fun c_5 => absurd c_5 (by rw [hps_p]; decide))
            refine lv_iload_n hx hb dX9_sneeze_14 rfl (lv_at hl 2 rfl) ?_
            refine lv_if_lt (tgt := 28) hx hb dX9_sneeze_15 (by decide) (fun c_9 => absurd c_9 hz_n) (fun c_9 => ?_)
            refine lv_iload hx hb dX9_sneeze_18 (lv_at hl 4 rfl) ?_
            refine lv_if_lt (tgt := 28) hx hb dX9_sneeze_20 (by decide) (fun c_9 => absurd c_9 hz_v) (fun c_9 => ?_)
            refine lv_iload_n hx hb dX9_sneeze_23 rfl (lv_at hl 3 rfl) ?_
            refine lv_iconst (v := 2) hx hb dX9_sneeze_24 (by decide) ?_
            refine lv_icmp_ge (tgt := 35) hx hb dX9_sneeze_25 (by decide) (fun c_9 => ?_) (fun c_9 => absurd (Int32.not_lt.mp h2) c_9)
            refine lv_iload_n hx hb dX9_sneeze_35 rfl (lv_at hl 2 rfl) ?_
            refine lv_bipush (v := 7) hx hb dX9_sneeze_36 (by decide) ?_
            refine lv_icmp_gt (tgt := 54) hx hb dX9_sneeze_38 (by decide) (fun c_9 => ?_) (fun c_9 => absurd h7 c_9)
            refine lv_aload_n hx hb dX9_sneeze_54 rfl (lv_at hl 0 rfl) ?_
            refine lv_bipush (v := (-6)) hx hb dX9_sneeze_55 (by decide) ?_
            refine r_det (r_V cx hw (kX9_noWide l hl9 g a s m im wa L R rf nu hi lm rn pl sd (-6) (by unfold okC; decide)) (cwV 1 hts (lw_V q1455 q1457 qs82 q94 q1458) rfl rfl rfl (by decide +kernel) ⟨Nat.le_of_ble_eq_true rfl, Nat.le_of_ble_eq_true rfl⟩) (r_recv hK hw (k := 0) (ci := 8) rfl rfl) [0, 1, 2, 3, 4, 5, 6, 7, 8] rfl rfl rfl hl.1 rfl (Nat.le_of_ble_eq_true rfl) dX9_sneeze_57 ⟨Nat.le_of_ble_eq_true rfl, Nat.le_of_ble_eq_true rfl⟩) cx hw [0, 1, 2, 3, 4, 5, 6, 7, 8] rfl rfl rfl (ws' := WM g a s m im wa L R (rfU rf (-6)) nu hi lm rn pl sd) (rfl) (fun H locs hw => ?_)
            refine W.eq (g2 := F0 m9 60 ls [.long (4000000000000000000 - ((-6) : Int32).toInt64)]) rfl ?_
            exact r_lret cx hw (⟨_, by rw [ansL_n hne, hW], by rw [rfA_n hne, hW]⟩) (Nat.le_of_ble_eq_true rfl) (Nat.le_of_ble_eq_true rfl) dX9_sneeze_60
          · skip
            by_cases h20 : 20 < t
            · skip
              have hW : wSnz s (nI k) n t v w9 = -6 := by simp [wSnz, hps_p, hz_n, hz_v, h2, h7, h20]
              have hne : ¬ wSnz s (nI k) n t v w9 = 0 := by rw [hW]; decide
              refine MC.of (by decide) (Nat.le_of_ble_eq_true rfl) ?_
              intro p9 e9 s9 m9 args9 below9 meth9 c9 A9 ls cx htab hw hl
              have hx := cx.1
              have hb := cx.2.1
              have hts := cx.2.2.2.2.1
              have hK := cx.2.2.2.2.2.2.2.1
              have hl : lv_has ls 14 [(0, .ref (a 0)), (1, .int (nI k)), (2, .int n), (3, .int t), (4, .int v), (5, .int w9)] := hl
              refine lv_aload_n hx hb dX9_sneeze_0 rfl (lv_at hl 0 rfl) ?_
              refine lv_iload_n hx hb dX9_sneeze_1 rfl (lv_at hl 1 rfl) ?_
              refine r_det (r_V cx hw (kX9_isPerson l hl9 g a s m im wa L R rf nu hi lm rn pl sd (nI k)) (cwV 1 hts (lw_V q1257 q1259 qs72 q94 q1260) rfl rfl rfl (by decide +kernel) ⟨Nat.le_of_ble_eq_true rfl, Nat.le_of_ble_eq_true rfl⟩) (r_recv hK hw (k := 0) (ci := 8) rfl rfl) [0, 1, 2, 3, 4, 5, 6, 7, 8] rfl rfl rfl hl.1 rfl (Nat.le_of_ble_eq_true rfl) dX9_sneeze_2 ⟨Nat.le_of_ble_eq_true rfl, Nat.le_of_ble_eq_true rfl⟩) cx hw [0, 1, 2, 3, 4, 5, 6, 7, 8] rfl rfl rfl (ws' := WM g a s m im wa L R rf nu hi lm rn pl sd) (rfl) (fun H locs hw => ?_)
              refine W.eq (g2 := F0 m9 5 ls [.int (bI (psB s (nI k)))]) rfl ?_
              refine lv_if_ne (tgt := 14) hx hb dX9_sneeze_5 (by decide) (fun c_5 => ?_) (fun c_5 => absurd c_5 (by rw [hps_p]; decide))
              refine lv_iload_n hx hb dX9_sneeze_14 rfl (lv_at hl 2 rfl) ?_
              refine lv_if_lt (tgt := 28) hx hb dX9_sneeze_15 (by decide) (fun c_9 => absurd c_9 hz_n) (fun c_9 => ?_)
              refine lv_iload hx hb dX9_sneeze_18 (lv_at hl 4 rfl) ?_
              refine lv_if_lt (tgt := 28) hx hb dX9_sneeze_20 (by decide) (fun c_9 => absurd c_9 hz_v) (fun c_9 => ?_)
              refine lv_iload_n hx hb dX9_sneeze_23 rfl (lv_at hl 3 rfl) ?_
              refine lv_iconst (v := 2) hx hb dX9_sneeze_24 (by decide) ?_
              refine lv_icmp_ge (tgt := 35) hx hb dX9_sneeze_25 (by decide) (fun c_9 => ?_) (fun c_9 => absurd (Int32.not_lt.mp h2) c_9)
              refine lv_iload_n hx hb dX9_sneeze_35 rfl (lv_at hl 2 rfl) ?_
              refine lv_bipush (v := 7) hx hb dX9_sneeze_36 (by decide) ?_
              refine lv_icmp_gt (tgt := 54) hx hb dX9_sneeze_38 (by decide) (fun c_9 => absurd c_9 h7) (fun c_9 => ?_)
              refine lv_iload_n hx hb dX9_sneeze_41 rfl (lv_at hl 3 rfl) ?_
              refine lv_bipush (v := 20) hx hb dX9_sneeze_42 (by decide) ?_
              refine lv_icmp_gt (tgt := 54) hx hb dX9_sneeze_44 (by decide) (fun c_9 => ?_) (fun c_9 => absurd h20 c_9)
              refine lv_aload_n hx hb dX9_sneeze_54 rfl (lv_at hl 0 rfl) ?_
              refine lv_bipush (v := (-6)) hx hb dX9_sneeze_55 (by decide) ?_
              refine r_det (r_V cx hw (kX9_noWide l hl9 g a s m im wa L R rf nu hi lm rn pl sd (-6) (by unfold okC; decide)) (cwV 1 hts (lw_V q1455 q1457 qs82 q94 q1458) rfl rfl rfl (by decide +kernel) ⟨Nat.le_of_ble_eq_true rfl, Nat.le_of_ble_eq_true rfl⟩) (r_recv hK hw (k := 0) (ci := 8) rfl rfl) [0, 1, 2, 3, 4, 5, 6, 7, 8] rfl rfl rfl hl.1 rfl (Nat.le_of_ble_eq_true rfl) dX9_sneeze_57 ⟨Nat.le_of_ble_eq_true rfl, Nat.le_of_ble_eq_true rfl⟩) cx hw [0, 1, 2, 3, 4, 5, 6, 7, 8] rfl rfl rfl (ws' := WM g a s m im wa L R (rfU rf (-6)) nu hi lm rn pl sd) (rfl) (fun H locs hw => ?_)
              refine W.eq (g2 := F0 m9 60 ls [.long (4000000000000000000 - ((-6) : Int32).toInt64)]) rfl ?_
              exact r_lret cx hw (⟨_, by rw [ansL_n hne, hW], by rw [rfA_n hne, hW]⟩) (Nat.le_of_ble_eq_true rfl) (Nat.le_of_ble_eq_true rfl) dX9_sneeze_60
            · skip
              by_cases h99 : 99 < v
              · skip
                have hW : wSnz s (nI k) n t v w9 = -6 := by simp [wSnz, hps_p, hz_n, hz_v, h2, h7, h20, h99]
                have hne : ¬ wSnz s (nI k) n t v w9 = 0 := by rw [hW]; decide
                refine MC.of (by decide) (Nat.le_of_ble_eq_true rfl) ?_
                intro p9 e9 s9 m9 args9 below9 meth9 c9 A9 ls cx htab hw hl
                have hx := cx.1
                have hb := cx.2.1
                have hts := cx.2.2.2.2.1
                have hK := cx.2.2.2.2.2.2.2.1
                have hl : lv_has ls 14 [(0, .ref (a 0)), (1, .int (nI k)), (2, .int n), (3, .int t), (4, .int v), (5, .int w9)] := hl
                refine lv_aload_n hx hb dX9_sneeze_0 rfl (lv_at hl 0 rfl) ?_
                refine lv_iload_n hx hb dX9_sneeze_1 rfl (lv_at hl 1 rfl) ?_
                refine r_det (r_V cx hw (kX9_isPerson l hl9 g a s m im wa L R rf nu hi lm rn pl sd (nI k)) (cwV 1 hts (lw_V q1257 q1259 qs72 q94 q1260) rfl rfl rfl (by decide +kernel) ⟨Nat.le_of_ble_eq_true rfl, Nat.le_of_ble_eq_true rfl⟩) (r_recv hK hw (k := 0) (ci := 8) rfl rfl) [0, 1, 2, 3, 4, 5, 6, 7, 8] rfl rfl rfl hl.1 rfl (Nat.le_of_ble_eq_true rfl) dX9_sneeze_2 ⟨Nat.le_of_ble_eq_true rfl, Nat.le_of_ble_eq_true rfl⟩) cx hw [0, 1, 2, 3, 4, 5, 6, 7, 8] rfl rfl rfl (ws' := WM g a s m im wa L R rf nu hi lm rn pl sd) (rfl) (fun H locs hw => ?_)
                refine W.eq (g2 := F0 m9 5 ls [.int (bI (psB s (nI k)))]) rfl ?_
                refine lv_if_ne (tgt := 14) hx hb dX9_sneeze_5 (by decide) (fun c_5 => ?_) (fun c_5 => absurd c_5 (by rw [hps_p]; decide))
                refine lv_iload_n hx hb dX9_sneeze_14 rfl (lv_at hl 2 rfl) ?_
                refine lv_if_lt (tgt := 28) hx hb dX9_sneeze_15 (by decide) (fun c_9 => absurd c_9 hz_n) (fun c_9 => ?_)
                refine lv_iload hx hb dX9_sneeze_18 (lv_at hl 4 rfl) ?_
                refine lv_if_lt (tgt := 28) hx hb dX9_sneeze_20 (by decide) (fun c_9 => absurd c_9 hz_v) (fun c_9 => ?_)
                refine lv_iload_n hx hb dX9_sneeze_23 rfl (lv_at hl 3 rfl) ?_
                refine lv_iconst (v := 2) hx hb dX9_sneeze_24 (by decide) ?_
                refine lv_icmp_ge (tgt := 35) hx hb dX9_sneeze_25 (by decide) (fun c_9 => ?_) (fun c_9 => absurd (Int32.not_lt.mp h2) c_9)
                refine lv_iload_n hx hb dX9_sneeze_35 rfl (lv_at hl 2 rfl) ?_
                refine lv_bipush (v := 7) hx hb dX9_sneeze_36 (by decide) ?_
                refine lv_icmp_gt (tgt := 54) hx hb dX9_sneeze_38 (by decide) (fun c_9 => absurd c_9 h7) (fun c_9 => ?_)
                refine lv_iload_n hx hb dX9_sneeze_41 rfl (lv_at hl 3 rfl) ?_
                refine lv_bipush (v := 20) hx hb dX9_sneeze_42 (by decide) ?_
                refine lv_icmp_gt (tgt := 54) hx hb dX9_sneeze_44 (by decide) (fun c_9 => absurd c_9 h20) (fun c_9 => ?_)
                refine lv_iload hx hb dX9_sneeze_47 (lv_at hl 4 rfl) ?_
                refine lv_bipush (v := 99) hx hb dX9_sneeze_49 (by decide) ?_
                refine lv_icmp_le (tgt := 61) hx hb dX9_sneeze_51 (by decide) (fun c_9 => absurd h99 (Int32.not_lt.mpr c_9)) (fun c_9 => ?_)
                refine lv_aload_n hx hb dX9_sneeze_54 rfl (lv_at hl 0 rfl) ?_
                refine lv_bipush (v := (-6)) hx hb dX9_sneeze_55 (by decide) ?_
                refine r_det (r_V cx hw (kX9_noWide l hl9 g a s m im wa L R rf nu hi lm rn pl sd (-6) (by unfold okC; decide)) (cwV 1 hts (lw_V q1455 q1457 qs82 q94 q1458) rfl rfl rfl (by decide +kernel) ⟨Nat.le_of_ble_eq_true rfl, Nat.le_of_ble_eq_true rfl⟩) (r_recv hK hw (k := 0) (ci := 8) rfl rfl) [0, 1, 2, 3, 4, 5, 6, 7, 8] rfl rfl rfl hl.1 rfl (Nat.le_of_ble_eq_true rfl) dX9_sneeze_57 ⟨Nat.le_of_ble_eq_true rfl, Nat.le_of_ble_eq_true rfl⟩) cx hw [0, 1, 2, 3, 4, 5, 6, 7, 8] rfl rfl rfl (ws' := WM g a s m im wa L R (rfU rf (-6)) nu hi lm rn pl sd) (rfl) (fun H locs hw => ?_)
                refine W.eq (g2 := F0 m9 60 ls [.long (4000000000000000000 - ((-6) : Int32).toInt64)]) rfl ?_
                exact r_lret cx hw (⟨_, by rw [ansL_n hne, hW], by rw [rfA_n hne, hW]⟩) (Nat.le_of_ble_eq_true rfl) (Nat.le_of_ble_eq_true rfl) dX9_sneeze_60
              · skip
                obtain ⟨n, hn, rfl⟩ := nI_rng (M := 7) (by decide) (Int32.not_lt.mp hz_n) (Int32.not_lt.mp h7)
                have en : tN (nI n) = n := tN_nI (by omega)
                obtain ⟨t, ht, rfl⟩ := nI_rng (M := 20) (by decide) (Int32.le_trans (by decide) (Int32.not_lt.mp h2)) (Int32.not_lt.mp h20)
                have et : tN (nI t) = t := tN_nI (by omega)
                have ht2 : 2 ≤ t := (nI_leI (a := 2) (b := t) (by decide) (by omega)).mp (Int32.not_lt.mp h2)
                by_cases hin_w9 : isInB w9 0 1 = true
                · skip
                  have hW : wSnz s (nI k) (nI n) (nI t) v w9 = 0 := by simp [wSnz, hps_p, hz_n, hz_v, h2, h7, h20, h99, wBit, hin_w9]
                  refine MC.of (by decide) (Nat.le_of_ble_eq_true rfl) ?_
                  intro p9 e9 s9 m9 args9 below9 meth9 c9 A9 ls cx htab hw hl
                  have hx := cx.1
                  have hb := cx.2.1
                  have hts := cx.2.2.2.2.1
                  have hK := cx.2.2.2.2.2.2.2.1
                  have hl : lv_has ls 14 [(0, .ref (a 0)), (1, .int (nI k)), (2, .int (nI n)), (3, .int (nI t)), (4, .int v), (5, .int w9)] := hl
                  have hB9 : t ^ n < 2 ^ 63 := Nat.lt_of_le_of_lt (Nat.pow_le_pow_left ht n) (Nat.lt_of_le_of_lt (Nat.pow_le_pow_right (by decide) hn) (by decide))
                  have hS9 : 2 ^ n ≤ 128 := Nat.pow_le_pow_right (n := 2) (by decide) hn
                  obtain ⟨B, hB, hB8⟩ : ∃ B, B = 2 ^ n ∧ B ≤ 128 := ⟨_, rfl, hS9⟩
                  have hA9 : szA s k n t v B < 2 ^ 63 := Nat.lt_of_le_of_lt (szA_le s k n t v hn ht B) (Nat.lt_of_le_of_lt (Nat.mul_le_mul_right _ hB8) (by decide))
                  have J109 : ∀ (n9 j : Nat) (mm : Nat → Int32), j ≤ B → B < n9 + j → ∀ (H : Heap) (locs : List Loc) (ls : Array Slot), WS g A9 s9.heap (WM g a s mm im wa L R rf nu hi lm rn pl sd) H locs → lv_has ls 14 [(0, .ref (a 0)), (1, .int (nI k)), (2, .int (nI n)), (3, .int (nI t)), (4, .int v), (5, .int w9), (6, .long (lN (szA s k n t v j))), (8, .long (lN (t ^ n))), (10, .int (nI j))] → W p9 l e9 (rmC 4 89 0 0) s9 m9 args9 below9 meth9 c9 H locs 0 0 (vx_MQ below9 (PostA g A9 (rtE (α := Nat → Int32) (some (.long (ansL (wSnz s (nI k) (nI n) (nI t) v w9) (vSnz s (tN (nI k)) (tN (nI n)) (tN (nI t)) v w9)))) (fun x9 => WM g a s x9 im wa L R (rfA (wSnz s (nI k) (nI n) (nI t) v w9) rf) nu hi lm rn pl sd))) (PxA g A9 (pxR (noX))) args9 s9 0 0 A9) (F0 m9 109 ls []) := by
                    intro n9
                    induction n9 with
                    | zero => intro j mm hj hk9; exact absurd hk9 (by omega)
                    | succ n9 ih_J109 =>
                      intro j mm hj hk9  H locs ls hw hl
                      refine lv_iload hx hb dX9_sneeze_109 (lv_at hl 8 rfl) ?_
                      refine lv_iconst (v := 1) hx hb dX9_sneeze_111 (by decide) ?_
                      refine lv_iload_n hx hb dX9_sneeze_112 rfl (lv_at hl 2 rfl) ?_
                      refine lv_ishl hx hb dX9_sneeze_113 ?_
                      refine r_topi (x' := nI B) (by rw [hB]; exact shl_7 n hn) ?_
                      refine lv_icmp_ge (tgt := 225) hx hb dX9_sneeze_114 (by decide) (fun c_114 => ?_) (fun c_114 => ?_)
                      · skip
                        have c_114 : B ≤ j := (nI_leI (a := B) (b := j) (by omega) (by omega)).mp c_114
                        refine lv_lload hx hb dX9_sneeze_225 (lv_at hl 6 rfl) ?_
                        refine lv_lload hx hb dX9_sneeze_227 (lv_at hl 7 rfl) ?_
                        refine lv_iload hx hb dX9_sneeze_229 (lv_at hl 5 rfl) ?_
                        refine r_det (r_S cx hw (kX9_partOf l hl9 g (szA s k n t v j) (t ^ n) (by rw [show j = B by omega]; exact hA9) hB9 w9) (va_cwS 3 hts (lw_S q1460 q1461 q94 q1462) rfl rfl rfl (by decide +kernel) ⟨Nat.le_of_ble_eq_true rfl, Nat.le_of_ble_eq_true rfl⟩) [] rfl rfl rfl hl.1 rfl (Nat.le_of_ble_eq_true rfl) dX9_sneeze_231 ⟨Nat.le_of_ble_eq_true rfl, Nat.le_of_ble_eq_true rfl⟩) cx hw [] rfl rfl rfl (ws' := WM g a s mm im wa L R rf nu hi lm rn pl sd) (rfl) (fun H locs hw => ?_)
                        refine W.eq (g2 := F0 m9 234 ls [.long (ptN (szA s k n t v j) (t ^ n) w9)]) rfl ?_
                        exact r_lret cx hw (⟨_, by rw [hW, ansL_0, vSnz, ek, en, et, ← hB, show j = B by omega], by rw [hW, rfA_0]⟩) (Nat.le_of_ble_eq_true rfl) (Nat.le_of_ble_eq_true rfl) dX9_sneeze_234
                      · skip
                        have c_114 : j < B := Nat.not_le.mp (fun h9 => c_114 ((nI_leI (a := B) (b := j) (by omega) (by omega)).mpr h9))
                        refine lv_lconst (v := 1) hx hb dX9_sneeze_117 (by decide) ?_
                        refine lv_lstore (lv' := [(11, .long 1), (0, .ref (a 0)), (1, .int (nI k)), (2, .int (nI n)), (3, .int (nI t)), (4, .int v), (5, .int w9), (6, .long (lN (szA s k n t v j))), (8, .long (lN (t ^ n))), (10, .int (nI j))]) hx hb dX9_sneeze_118 hl (by decide) rfl (fun ls hl => ?_)
                        refine lv_aload_n hx hb dX9_sneeze_120 rfl (lv_at hl 1 rfl) ?_
                        refine r_get cx hw in_X9 0 (ci := 8) (T := TX9) (N := 13) rfl rfl 0 (by decide) q1169 (fun _ h9 => h9) rfl dX9_sneeze_121 ?_
                        refine lv_aload_n hx hb dX9_sneeze_124 rfl (lv_at hl 1 rfl) ?_
                        refine r_get cx hw in_X9 0 (ci := 8) (T := TX9) (N := 13) rfl rfl 1 (by decide) q1170 (fun _ h9 => h9) rfl dX9_sneeze_125 ?_
                        refine r_det (r_S cx hw (kX9_copies l hl9 g (a 1) (a 2) s mm) (va_cwS 2 hts (lw_S q1243 q1244 q94 q1245) rfl rfl rfl (by decide +kernel) ⟨Nat.le_of_ble_eq_true rfl, Nat.le_of_ble_eq_true rfl⟩) [1, 2] rfl rfl rfl hl.1 rfl (Nat.le_of_ble_eq_true rfl) dX9_sneeze_128 ⟨Nat.le_of_ble_eq_true rfl, Nat.le_of_ble_eq_true rfl⟩) cx hw [1, 2] rfl rfl rfl (ws' := WM g a s s im wa L R rf nu hi lm rn pl sd) (rfl) (fun H locs hw => ?_)
                        refine W.eq (g2 := F0 m9 131 ls []) rfl ?_
                        refine lv_iconst (v := 0) hx hb dX9_sneeze_131 (by decide) ?_
                        refine lv_istore (lv' := [(13, .int 0), (11, .long 1), (0, .ref (a 0)), (1, .int (nI k)), (2, .int (nI n)), (3, .int (nI t)), (4, .int v), (5, .int w9), (6, .long (lN (szA s k n t v j))), (8, .long (lN (t ^ n))), (10, .int (nI j))]) hx hb dX9_sneeze_132 hl (by decide) rfl (fun ls hl => ?_)
                        have J134 : ∀ (n9 i : Nat) , i ≤ n → n < n9 + i → ∀ (H : Heap) (locs : List Loc) (ls : Array Slot), WS g A9 s9.heap (WM g a s (szR s k j i) im wa L R rf nu hi lm rn pl sd) H locs → lv_has ls 14 [(0, .ref (a 0)), (1, .int (nI k)), (2, .int (nI n)), (3, .int (nI t)), (4, .int v), (5, .int w9), (6, .long (lN (szA s k n t v j))), (8, .long (lN (t ^ n))), (10, .int (nI j)), (11, .long (lN (szW t j i))), (13, .int (nI i))] → W p9 l e9 (rmC 4 89 0 0) s9 m9 args9 below9 meth9 c9 H locs 0 0 (vx_MQ below9 (PostA g A9 (rtE (α := Nat → Int32) (some (.long (ansL (wSnz s (nI k) (nI n) (nI t) v w9) (vSnz s (tN (nI k)) (tN (nI n)) (tN (nI t)) v w9)))) (fun x9 => WM g a s x9 im wa L R (rfA (wSnz s (nI k) (nI n) (nI t) v w9) rf) nu hi lm rn pl sd))) (PxA g A9 (pxR (noX))) args9 s9 0 0 A9) (F0 m9 134 ls []) := by
                          intro n9
                          induction n9 with
                          | zero => intro i  hj hk9; exact absurd hk9 (by omega)
                          | succ n9 ih_J134 =>
                            intro i  hj hk9  H locs ls hw hl
                            refine lv_iload hx hb dX9_sneeze_134 (lv_at hl 10 rfl) ?_
                            refine lv_iload_n hx hb dX9_sneeze_136 rfl (lv_at hl 2 rfl) ?_
                            refine lv_icmp_ge (tgt := 193) hx hb dX9_sneeze_137 (by decide) (fun c_137 => ?_) (fun c_137 => ?_)
                            · skip
                              have c_137 : n ≤ i := (nI_leI (a := n) (b := i) (by omega) (by omega)).mp c_137
                              refine lv_lload hx hb dX9_sneeze_193 (lv_at hl 6 rfl) ?_
                              refine lv_aload_n hx hb dX9_sneeze_195 rfl (lv_at hl 0 rfl) ?_
                              refine r_get cx hw in_X9 0 (ci := 8) (T := TX9) (N := 13) rfl rfl 1 (by decide) q1170 (fun _ h9 => h9) rfl dX9_sneeze_196 ?_
                              refine lv_iload_n hx hb dX9_sneeze_199 rfl (lv_at hl 1 rfl) ?_
                              refine lv_iconst (v := 3) hx hb dX9_sneeze_200 (by decide) ?_
                              refine r_det (r_S cx hw (kX9_of l hl9 g k 3) (va_cwS 2 hts (lw_S q1254 q1255 q94 q1256) rfl rfl rfl (by decide +kernel) ⟨Nat.le_of_ble_eq_true rfl, Nat.le_of_ble_eq_true rfl⟩) [] rfl rfl rfl hl.1 rfl (Nat.le_of_ble_eq_true rfl) dX9_sneeze_201 ⟨Nat.le_of_ble_eq_true rfl, Nat.le_of_ble_eq_true rfl⟩) cx hw [] rfl rfl rfl (ws' := WM g a s (szR s k j i) im wa L R rf nu hi lm rn pl sd) (rfl) (fun H locs hw => ?_)
                              refine W.eq (g2 := F0 m9 204 ls [.int (nI (5 + 7 * k + 3)), .ref (a 2), .long (lN (szA s k n t v j))]) rfl ?_
                              refine r_iald cx hw 2 rfl (5 + 7 * k + 3) rfl (by omega) (Nat.le_of_ble_eq_true rfl) dX9_sneeze_204 ?_
                              refine lv_iload hx hb dX9_sneeze_205 (lv_at hl 4 rfl) ?_
                              refine lv_icmp_lt (tgt := 215) hx hb dX9_sneeze_207 (by decide) (fun c_207 => ?_) (fun c_207 => ?_)
                              · skip
                                have e8 : i = n := by omega
                                have c_207 : szR s k j n (5 + 7 * k + 3) < v := by rw [← e8]; exact c_207
                                refine lv_lconst (v := 0) hx hb dX9_sneeze_215 (by decide) ?_
                                refine r_topl (x' := lN (szC s k n t v j)) (by rw [szC, if_pos c_207]; rfl) ?_
                                refine lv_ladd hx hb dX9_sneeze_216 ?_
                                refine r_topl (x' := lN (szA s k n t v (j + 1))) (lN_add _ _) ?_
                                refine lv_lstore (lv' := [(6, .long (lN (szA s k n t v (j + 1)))), (0, .ref (a 0)), (1, .int (nI k)), (2, .int (nI n)), (3, .int (nI t)), (4, .int v), (5, .int w9), (8, .long (lN (t ^ n))), (10, .int (nI j)), (11, .long (lN (szW t j i))), (13, .int (nI i))]) hx hb dX9_sneeze_217 hl (by decide) rfl (fun ls hl => ?_)
                                refine lv_iinc (v := nI (j + 1)) (lv' := [(10, .int (nI (j + 1))), (6, .long (lN (szA s k n t v (j + 1)))), (0, .ref (a 0)), (1, .int (nI k)), (2, .int (nI n)), (3, .int (nI t)), (4, .int v), (5, .int w9), (8, .long (lN (t ^ n))), (11, .long (lN (szW t j i))), (13, .int (nI i))]) hx hb dX9_sneeze_219 hl (k := 8) rfl (nI_1 j) (by decide) rfl (fun ls hl => ?_)
                                refine lv_goto (tgt := 109) hx hb dX9_sneeze_222 (by decide) ?_
                                exact ih_J109 (j + 1) (szR s k j i) (by omega) (by omega)  _ _ _ (hw) (lv_sub hl [2, 3, 4, 5, 6, 7, 1, 8, 0] rfl)
                              · skip
                                have e8 : i = n := by omega
                                have c_207 : ¬ szR s k j n (5 + 7 * k + 3) < v := by rw [← e8]; exact c_207
                                refine lv_lload hx hb dX9_sneeze_210 (lv_at hl 9 rfl) ?_
                                refine lv_goto (tgt := 216) hx hb dX9_sneeze_212 (by decide) ?_
                                refine r_topl (x' := lN (szC s k n t v j)) (by rw [szC, if_neg c_207, e8]) ?_
                                refine lv_ladd hx hb dX9_sneeze_216 ?_
                                refine r_topl (x' := lN (szA s k n t v (j + 1))) (lN_add _ _) ?_
                                refine lv_lstore (lv' := [(6, .long (lN (szA s k n t v (j + 1)))), (0, .ref (a 0)), (1, .int (nI k)), (2, .int (nI n)), (3, .int (nI t)), (4, .int v), (5, .int w9), (8, .long (lN (t ^ n))), (10, .int (nI j)), (11, .long (lN (szW t j i))), (13, .int (nI i))]) hx hb dX9_sneeze_217 hl (by decide) rfl (fun ls hl => ?_)
                                refine lv_iinc (v := nI (j + 1)) (lv' := [(10, .int (nI (j + 1))), (6, .long (lN (szA s k n t v (j + 1)))), (0, .ref (a 0)), (1, .int (nI k)), (2, .int (nI n)), (3, .int (nI t)), (4, .int v), (5, .int w9), (8, .long (lN (t ^ n))), (11, .long (lN (szW t j i))), (13, .int (nI i))]) hx hb dX9_sneeze_219 hl (k := 8) rfl (nI_1 j) (by decide) rfl (fun ls hl => ?_)
                                refine lv_goto (tgt := 109) hx hb dX9_sneeze_222 (by decide) ?_
                                exact ih_J109 (j + 1) (szR s k j i) (by omega) (by omega)  _ _ _ (hw) (lv_sub hl [2, 3, 4, 5, 6, 7, 1, 8, 0] rfl)
                            · skip
                              have c_137 : i < n := Nat.not_le.mp (fun h9 => c_137 ((nI_leI (a := n) (b := i) (by omega) (by omega)).mpr h9))
                              refine lv_lload hx hb dX9_sneeze_140 (lv_at hl 9 rfl) ?_
                              refine lv_iload hx hb dX9_sneeze_142 (lv_at hl 8 rfl) ?_
                              refine lv_iload hx hb dX9_sneeze_144 (lv_at hl 10 rfl) ?_
                              refine r_det (r_S cx hw (kX9_has l hl9 g (nI j) (nI i)) (va_cwS 2 hts (lw_S q1273 q1274 q94 q1275) rfl rfl rfl (by decide +kernel) ⟨Nat.le_of_ble_eq_true rfl, Nat.le_of_ble_eq_true rfl⟩) [] rfl rfl rfl hl.1 rfl (Nat.le_of_ble_eq_true rfl) dX9_sneeze_146 ⟨Nat.le_of_ble_eq_true rfl, Nat.le_of_ble_eq_true rfl⟩) cx hw [] rfl rfl rfl (ws' := WM g a s (szR s k j i) im wa L R rf nu hi lm rn pl sd) (rfl) (fun H locs hw => ?_)
                              refine W.eq (g2 := F0 m9 149 ls [.int (bI (hsB (nI j) (nI i))), .long (lN (szW t j i))]) rfl ?_
                              refine lv_if_eq (tgt := 156) hx hb dX9_sneeze_149 (by decide) (fun c_149 => ?_) (fun c_149 => ?_)
                              · skip
                                have c_149 := bI_e0 c_149
                                refine lv_iload_n hx hb dX9_sneeze_156 rfl (lv_at hl 3 rfl) ?_
                                refine lv_iconst (v := 1) hx hb dX9_sneeze_157 (by decide) ?_
                                refine lv_isub hx hb dX9_sneeze_158 ?_
                                refine lv_i2l hx hb dX9_sneeze_159 rfl ?_
                                refine r_topl (x' := lN (if hsB (nI j) (nI i) = true then 1 else t - 1)) (by rw [if_neg (by rw [c_149]; decide)]; exact nI_lm (by omega) (by omega)) ?_
                                refine lv_lmul hx hb dX9_sneeze_160 ?_
                                refine r_topl (x' := lN (szW t j (i + 1))) (lN_mul _ _) ?_
                                refine lv_lstore (lv' := [(11, .long (lN (szW t j (i + 1)))), (0, .ref (a 0)), (1, .int (nI k)), (2, .int (nI n)), (3, .int (nI t)), (4, .int v), (5, .int w9), (6, .long (lN (szA s k n t v j))), (8, .long (lN (t ^ n))), (10, .int (nI j)), (13, .int (nI i))]) hx hb dX9_sneeze_161 hl (by decide) rfl (fun ls hl => ?_)
                                refine lv_aload_n hx hb dX9_sneeze_163 rfl (lv_at hl 1 rfl) ?_
                                refine r_get cx hw in_X9 0 (ci := 8) (T := TX9) (N := 13) rfl rfl 1 (by decide) q1170 (fun _ h9 => h9) rfl dX9_sneeze_164 ?_
                                refine lv_iload hx hb dX9_sneeze_167 (lv_at hl 9 rfl) ?_
                                refine lv_iload hx hb dX9_sneeze_169 (lv_at hl 10 rfl) ?_
                                refine r_det (r_S cx hw (kX9_has l hl9 g (nI j) (nI i)) (va_cwS 2 hts (lw_S q1273 q1274 q94 q1275) rfl rfl rfl (by decide +kernel) ⟨Nat.le_of_ble_eq_true rfl, Nat.le_of_ble_eq_true rfl⟩) [] rfl rfl rfl hl.1 rfl (Nat.le_of_ble_eq_true rfl) dX9_sneeze_171 ⟨Nat.le_of_ble_eq_true rfl, Nat.le_of_ble_eq_true rfl⟩) cx hw [] rfl rfl rfl (ws' := WM g a s (szR s k j i) im wa L R rf nu hi lm rn pl sd) (rfl) (fun H locs hw => ?_)
                                refine W.eq (g2 := F0 m9 174 ls [.int (bI (hsB (nI j) (nI i))), .ref (a 2)]) rfl ?_
                                refine lv_if_eq (tgt := 183) hx hb dX9_sneeze_174 (by decide) (fun c_9 => ?_) (fun c_9 => absurd (by rw [c_149]; rfl) c_9)
                                refine lv_iconst (v := 0) hx hb dX9_sneeze_183 (by decide) ?_
                                refine r_topi (x' := if hsB (nI j) (nI i) = true then 1 <<< (nI k &&& 31) else 0) (by rw [if_neg (by rw [c_149]; decide)]) ?_
                                refine r_det (r_S cx hw (kX9_hour l hl9 g (a 2) (szR s k j i) (szR_I hI k j i) (if hsB (nI j) (nI i) = true then 1 <<< (nI k &&& 31) else 0)) (va_cwS 2 hts (lw_S q1264 q1265 q94 q1266) rfl rfl rfl (by decide +kernel) ⟨Nat.le_of_ble_eq_true rfl, Nat.le_of_ble_eq_true rfl⟩) [2] rfl rfl rfl hl.1 rfl (Nat.le_of_ble_eq_true rfl) dX9_sneeze_184 ⟨Nat.le_of_ble_eq_true rfl, Nat.le_of_ble_eq_true rfl⟩) cx hw [2] rfl rfl rfl (ws' := WM g a s (hourF (szR s k j i) (if hsB (nI j) (nI i) = true then 1 <<< (nI k &&& 31) else 0)) im wa L R rf nu hi lm rn pl sd) (rfl) (fun H locs hw => ?_)
                                refine W.eq (g2 := F0 m9 187 ls []) rfl ?_
                                refine lv_iinc (v := nI (i + 1)) (lv' := [(13, .int (nI (i + 1))), (11, .long (lN (szW t j (i + 1)))), (0, .ref (a 0)), (1, .int (nI k)), (2, .int (nI n)), (3, .int (nI t)), (4, .int v), (5, .int w9), (6, .long (lN (szA s k n t v j))), (8, .long (lN (t ^ n))), (10, .int (nI j))]) hx hb dX9_sneeze_187 hl (k := 10) rfl (nI_1 i) (by decide) rfl (fun ls hl => ?_)
                                refine lv_goto (tgt := 134) hx hb dX9_sneeze_190 (by decide) ?_
                                exact ih_J134 (i + 1)  (by omega) (by omega)  _ _ _ (hw) (lv_sub hl [2, 3, 4, 5, 6, 7, 8, 9, 10, 1, 0] rfl)
                              · skip
                                have c_149 := bI_n0 c_149
                                refine lv_lconst (v := 1) hx hb dX9_sneeze_152 (by decide) ?_
                                refine lv_goto (tgt := 160) hx hb dX9_sneeze_153 (by decide) ?_
                                refine r_topl (x' := lN (if hsB (nI j) (nI i) = true then 1 else t - 1)) (by rw [if_pos c_149]; rfl) ?_
                                refine lv_lmul hx hb dX9_sneeze_160 ?_
                                refine r_topl (x' := lN (szW t j (i + 1))) (lN_mul _ _) ?_
                                refine lv_lstore (lv' := [(11, .long (lN (szW t j (i + 1)))), (0, .ref (a 0)), (1, .int (nI k)), (2, .int (nI n)), (3, .int (nI t)), (4, .int v), (5, .int w9), (6, .long (lN (szA s k n t v j))), (8, .long (lN (t ^ n))), (10, .int (nI j)), (13, .int (nI i))]) hx hb dX9_sneeze_161 hl (by decide) rfl (fun ls hl => ?_)
                                refine lv_aload_n hx hb dX9_sneeze_163 rfl (lv_at hl 1 rfl) ?_
                                refine r_get cx hw in_X9 0 (ci := 8) (T := TX9) (N := 13) rfl rfl 1 (by decide) q1170 (fun _ h9 => h9) rfl dX9_sneeze_164 ?_
                                refine lv_iload hx hb dX9_sneeze_167 (lv_at hl 9 rfl) ?_
                                refine lv_iload hx hb dX9_sneeze_169 (lv_at hl 10 rfl) ?_
                                refine r_det (r_S cx hw (kX9_has l hl9 g (nI j) (nI i)) (va_cwS 2 hts (lw_S q1273 q1274 q94 q1275) rfl rfl rfl (by decide +kernel) ⟨Nat.le_of_ble_eq_true rfl, Nat.le_of_ble_eq_true rfl⟩) [] rfl rfl rfl hl.1 rfl (Nat.le_of_ble_eq_true rfl) dX9_sneeze_171 ⟨Nat.le_of_ble_eq_true rfl, Nat.le_of_ble_eq_true rfl⟩) cx hw [] rfl rfl rfl (ws' := WM g a s (szR s k j i) im wa L R rf nu hi lm rn pl sd) (rfl) (fun H locs hw => ?_)
                                refine W.eq (g2 := F0 m9 174 ls [.int (bI (hsB (nI j) (nI i))), .ref (a 2)]) rfl ?_
                                refine lv_if_eq (tgt := 183) hx hb dX9_sneeze_174 (by decide) (fun c_9 => absurd c_9 (by rw [c_149]; decide)) (fun c_9 => ?_)
                                refine lv_iconst (v := 1) hx hb dX9_sneeze_177 (by decide) ?_
                                refine lv_iload_n hx hb dX9_sneeze_178 rfl (lv_at hl 2 rfl) ?_
                                refine lv_ishl hx hb dX9_sneeze_179 ?_
                                refine lv_goto (tgt := 184) hx hb dX9_sneeze_180 (by decide) ?_
                                refine r_topi (x' := if hsB (nI j) (nI i) = true then 1 <<< (nI k &&& 31) else 0) (by rw [if_pos c_149]) ?_
                                refine r_det (r_S cx hw (kX9_hour l hl9 g (a 2) (szR s k j i) (szR_I hI k j i) (if hsB (nI j) (nI i) = true then 1 <<< (nI k &&& 31) else 0)) (va_cwS 2 hts (lw_S q1264 q1265 q94 q1266) rfl rfl rfl (by decide +kernel) ⟨Nat.le_of_ble_eq_true rfl, Nat.le_of_ble_eq_true rfl⟩) [2] rfl rfl rfl hl.1 rfl (Nat.le_of_ble_eq_true rfl) dX9_sneeze_184 ⟨Nat.le_of_ble_eq_true rfl, Nat.le_of_ble_eq_true rfl⟩) cx hw [2] rfl rfl rfl (ws' := WM g a s (hourF (szR s k j i) (if hsB (nI j) (nI i) = true then 1 <<< (nI k &&& 31) else 0)) im wa L R rf nu hi lm rn pl sd) (rfl) (fun H locs hw => ?_)
                                refine W.eq (g2 := F0 m9 187 ls []) rfl ?_
                                refine lv_iinc (v := nI (i + 1)) (lv' := [(13, .int (nI (i + 1))), (11, .long (lN (szW t j (i + 1)))), (0, .ref (a 0)), (1, .int (nI k)), (2, .int (nI n)), (3, .int (nI t)), (4, .int v), (5, .int w9), (6, .long (lN (szA s k n t v j))), (8, .long (lN (t ^ n))), (10, .int (nI j))]) hx hb dX9_sneeze_187 hl (k := 10) rfl (nI_1 i) (by decide) rfl (fun ls hl => ?_)
                                refine lv_goto (tgt := 134) hx hb dX9_sneeze_190 (by decide) ?_
                                exact ih_J134 (i + 1)  (by omega) (by omega)  _ _ _ (hw) (lv_sub hl [2, 3, 4, 5, 6, 7, 8, 9, 10, 1, 0] rfl)
                        exact J134 (n + 1) 0  (by omega) (by omega)  _ _ _ (hw) (lv_sub hl [2, 3, 4, 5, 6, 7, 8, 9, 10, 1, 0] rfl)
                  have J87 : ∀ (n9 j : Nat) , j ≤ n → n < n9 + j → ∀ (H : Heap) (locs : List Loc) (ls : Array Slot), WS g A9 s9.heap (WM g a s m im wa L R rf nu hi lm rn pl sd) H locs → lv_has ls 14 [(0, .ref (a 0)), (1, .int (nI k)), (2, .int (nI n)), (3, .int (nI t)), (4, .int v), (5, .int w9), (6, .long 0), (8, .long (lN (t ^ j))), (10, .int (nI j))] → W p9 l e9 (rmC 4 89 0 0) s9 m9 args9 below9 meth9 c9 H locs 0 0 (vx_MQ below9 (PostA g A9 (rtE (α := Nat → Int32) (some (.long (ansL (wSnz s (nI k) (nI n) (nI t) v w9) (vSnz s (tN (nI k)) (tN (nI n)) (tN (nI t)) v w9)))) (fun x9 => WM g a s x9 im wa L R (rfA (wSnz s (nI k) (nI n) (nI t) v w9) rf) nu hi lm rn pl sd))) (PxA g A9 (pxR (noX))) args9 s9 0 0 A9) (F0 m9 87 ls []) := by
                    intro n9
                    induction n9 with
                    | zero => intro j  hj hk9; exact absurd hk9 (by omega)
                    | succ n9 ih_J87 =>
                      intro j  hj hk9  H locs ls hw hl
                      refine lv_iload hx hb dX9_sneeze_87 (lv_at hl 8 rfl) ?_
                      refine lv_iload_n hx hb dX9_sneeze_89 rfl (lv_at hl 2 rfl) ?_
                      refine lv_icmp_ge (tgt := 106) hx hb dX9_sneeze_90 (by decide) (fun c_90 => ?_) (fun c_90 => ?_)
                      · skip
                        have c_90 : n ≤ j := (nI_leI (a := n) (b := j) (by omega) (by omega)).mp c_90
                        refine lv_iconst (v := 0) hx hb dX9_sneeze_106 (by decide) ?_
                        refine lv_istore (lv' := [(10, .int 0), (0, .ref (a 0)), (1, .int (nI k)), (2, .int (nI n)), (3, .int (nI t)), (4, .int v), (5, .int w9), (6, .long 0), (8, .long (lN (t ^ j)))]) hx hb dX9_sneeze_107 hl (by decide) rfl (fun ls hl => ?_)
                        have e7 : j = n := by omega
                        exact J109 (B + 1) 0 m (by omega) (by omega)  _ _ _ (hw) (by rw [show t ^ n = t ^ j by rw [e7]]; exact lv_sub hl [1, 2, 3, 4, 5, 6, 7, 8, 0] rfl)
                      · skip
                        have c_90 : j < n := Nat.not_le.mp (fun h9 => c_90 ((nI_leI (a := n) (b := j) (by omega) (by omega)).mpr h9))
                        refine lv_lload hx hb dX9_sneeze_93 (lv_at hl 7 rfl) ?_
                        refine lv_iload_n hx hb dX9_sneeze_95 rfl (lv_at hl 3 rfl) ?_
                        refine lv_i2l hx hb dX9_sneeze_96 rfl ?_
                        refine lv_lmul hx hb dX9_sneeze_97 ?_
                        refine r_topl (x' := lN (t ^ (j + 1))) (by rw [nI_l (by omega), lN_mul, Nat.pow_succ]) ?_
                        refine lv_lstore (lv' := [(8, .long (lN (t ^ (j + 1)))), (0, .ref (a 0)), (1, .int (nI k)), (2, .int (nI n)), (3, .int (nI t)), (4, .int v), (5, .int w9), (6, .long 0), (10, .int (nI j))]) hx hb dX9_sneeze_98 hl (by decide) rfl (fun ls hl => ?_)
                        refine lv_iinc (v := nI (j + 1)) (lv' := [(10, .int (nI (j + 1))), (8, .long (lN (t ^ (j + 1)))), (0, .ref (a 0)), (1, .int (nI k)), (2, .int (nI n)), (3, .int (nI t)), (4, .int v), (5, .int w9), (6, .long 0)]) hx hb dX9_sneeze_100 hl (k := 8) rfl (nI_1 j) (by decide) rfl (fun ls hl => ?_)
                        refine lv_goto (tgt := 87) hx hb dX9_sneeze_103 (by decide) ?_
                        exact ih_J87 (j + 1)  (by omega) (by omega)  _ _ _ (hw) (lv_sub hl [2, 3, 4, 5, 6, 7, 8, 1, 0] rfl)
                  refine lv_aload_n hx hb dX9_sneeze_0 rfl (lv_at hl 0 rfl) ?_
                  refine lv_iload_n hx hb dX9_sneeze_1 rfl (lv_at hl 1 rfl) ?_
                  refine r_det (r_V cx hw (kX9_isPerson l hl9 g a s m im wa L R rf nu hi lm rn pl sd (nI k)) (cwV 1 hts (lw_V q1257 q1259 qs72 q94 q1260) rfl rfl rfl (by decide +kernel) ⟨Nat.le_of_ble_eq_true rfl, Nat.le_of_ble_eq_true rfl⟩) (r_recv hK hw (k := 0) (ci := 8) rfl rfl) [0, 1, 2, 3, 4, 5, 6, 7, 8] rfl rfl rfl hl.1 rfl (Nat.le_of_ble_eq_true rfl) dX9_sneeze_2 ⟨Nat.le_of_ble_eq_true rfl, Nat.le_of_ble_eq_true rfl⟩) cx hw [0, 1, 2, 3, 4, 5, 6, 7, 8] rfl rfl rfl (ws' := WM g a s m im wa L R rf nu hi lm rn pl sd) (rfl) (fun H locs hw => ?_)
                  refine W.eq (g2 := F0 m9 5 ls [.int (bI (psB s (nI k)))]) rfl ?_
                  refine lv_if_ne (tgt := 14) hx hb dX9_sneeze_5 (by decide) (fun c_5 => ?_) (fun c_5 => absurd c_5 (by rw [hps_p]; decide))
                  refine lv_iload_n hx hb dX9_sneeze_14 rfl (lv_at hl 2 rfl) ?_
                  refine lv_if_lt (tgt := 28) hx hb dX9_sneeze_15 (by decide) (fun c_9 => absurd c_9 hz_n) (fun c_9 => ?_)
                  refine lv_iload hx hb dX9_sneeze_18 (lv_at hl 4 rfl) ?_
                  refine lv_if_lt (tgt := 28) hx hb dX9_sneeze_20 (by decide) (fun c_9 => absurd c_9 hz_v) (fun c_9 => ?_)
                  refine lv_iload_n hx hb dX9_sneeze_23 rfl (lv_at hl 3 rfl) ?_
                  refine lv_iconst (v := 2) hx hb dX9_sneeze_24 (by decide) ?_
                  refine lv_icmp_ge (tgt := 35) hx hb dX9_sneeze_25 (by decide) (fun c_9 => ?_) (fun c_9 => absurd (Int32.not_lt.mp h2) c_9)
                  refine lv_iload_n hx hb dX9_sneeze_35 rfl (lv_at hl 2 rfl) ?_
                  refine lv_bipush (v := 7) hx hb dX9_sneeze_36 (by decide) ?_
                  refine lv_icmp_gt (tgt := 54) hx hb dX9_sneeze_38 (by decide) (fun c_9 => absurd c_9 h7) (fun c_9 => ?_)
                  refine lv_iload_n hx hb dX9_sneeze_41 rfl (lv_at hl 3 rfl) ?_
                  refine lv_bipush (v := 20) hx hb dX9_sneeze_42 (by decide) ?_
                  refine lv_icmp_gt (tgt := 54) hx hb dX9_sneeze_44 (by decide) (fun c_9 => absurd c_9 h20) (fun c_9 => ?_)
                  refine lv_iload hx hb dX9_sneeze_47 (lv_at hl 4 rfl) ?_
                  refine lv_bipush (v := 99) hx hb dX9_sneeze_49 (by decide) ?_
                  refine lv_icmp_le (tgt := 61) hx hb dX9_sneeze_51 (by decide) (fun c_9 => ?_) (fun c_9 => absurd (Int32.not_lt.mp h99) c_9)
                  refine lv_iload hx hb dX9_sneeze_61 (lv_at hl 5 rfl) ?_
                  refine lv_iconst (v := 0) hx hb dX9_sneeze_63 (by decide) ?_
                  refine lv_iconst (v := 1) hx hb dX9_sneeze_64 (by decide) ?_
                  refine r_det (r_S cx hw (kX9_isIn l hl9 g w9 0 1) (va_cwS 3 hts (lw_S q1240 q1241 q94 q1242) rfl rfl rfl (by decide +kernel) ⟨Nat.le_of_ble_eq_true rfl, Nat.le_of_ble_eq_true rfl⟩) [] rfl rfl rfl hl.1 rfl (Nat.le_of_ble_eq_true rfl) dX9_sneeze_65 ⟨Nat.le_of_ble_eq_true rfl, Nat.le_of_ble_eq_true rfl⟩) cx hw [] rfl rfl rfl (ws' := WM g a s m im wa L R rf nu hi lm rn pl sd) (rfl) (fun H locs hw => ?_)
                  refine W.eq (g2 := F0 m9 68 ls [.int (bI (isInB w9 0 1))]) rfl ?_
                  refine lv_if_ne (tgt := 78) hx hb dX9_sneeze_68 (by decide) (fun c_68 => ?_) (fun c_68 => absurd c_68 (by rw [hin_w9]; decide))
                  refine lv_lconst (v := 0) hx hb dX9_sneeze_78 (by decide) ?_
                  refine lv_lstore (lv' := [(6, .long 0), (0, .ref (a 0)), (1, .int (nI k)), (2, .int (nI n)), (3, .int (nI t)), (4, .int v), (5, .int w9)]) hx hb dX9_sneeze_79 hl (by decide) rfl (fun ls hl => ?_)
                  refine lv_lconst (v := 1) hx hb dX9_sneeze_81 (by decide) ?_
                  refine lv_lstore (lv' := [(8, .long 1), (6, .long 0), (0, .ref (a 0)), (1, .int (nI k)), (2, .int (nI n)), (3, .int (nI t)), (4, .int v), (5, .int w9)]) hx hb dX9_sneeze_82 hl (by decide) rfl (fun ls hl => ?_)
                  refine lv_iconst (v := 0) hx hb dX9_sneeze_84 (by decide) ?_
                  refine lv_istore (lv' := [(10, .int 0), (8, .long 1), (6, .long 0), (0, .ref (a 0)), (1, .int (nI k)), (2, .int (nI n)), (3, .int (nI t)), (4, .int v), (5, .int w9)]) hx hb dX9_sneeze_85 hl (by decide) rfl (fun ls hl => ?_)
                  exact J87 (n + 1) 0  (by omega) (by omega)  _ _ _ (hw) (lv_sub hl [3, 4, 5, 6, 7, 8, 2, 1, 0] rfl)
                · skip
                  have hin_w9 : isInB w9 0 1 = false := by simpa using hin_w9
                  have hW : wSnz s (nI k) (nI n) (nI t) v w9 = -2 := by simp [wSnz, hps_p, hz_n, hz_v, h2, h7, h20, h99, wBit, hin_w9]
                  have hne : ¬ wSnz s (nI k) (nI n) (nI t) v w9 = 0 := by rw [hW]; decide
                  refine MC.of (by decide) (Nat.le_of_ble_eq_true rfl) ?_
                  intro p9 e9 s9 m9 args9 below9 meth9 c9 A9 ls cx htab hw hl
                  have hx := cx.1
                  have hb := cx.2.1
                  have hts := cx.2.2.2.2.1
                  have hK := cx.2.2.2.2.2.2.2.1
                  have hl : lv_has ls 14 [(0, .ref (a 0)), (1, .int (nI k)), (2, .int (nI n)), (3, .int (nI t)), (4, .int v), (5, .int w9)] := hl
                  refine lv_aload_n hx hb dX9_sneeze_0 rfl (lv_at hl 0 rfl) ?_
                  refine lv_iload_n hx hb dX9_sneeze_1 rfl (lv_at hl 1 rfl) ?_
                  refine r_det (r_V cx hw (kX9_isPerson l hl9 g a s m im wa L R rf nu hi lm rn pl sd (nI k)) (cwV 1 hts (lw_V q1257 q1259 qs72 q94 q1260) rfl rfl rfl (by decide +kernel) ⟨Nat.le_of_ble_eq_true rfl, Nat.le_of_ble_eq_true rfl⟩) (r_recv hK hw (k := 0) (ci := 8) rfl rfl) [0, 1, 2, 3, 4, 5, 6, 7, 8] rfl rfl rfl hl.1 rfl (Nat.le_of_ble_eq_true rfl) dX9_sneeze_2 ⟨Nat.le_of_ble_eq_true rfl, Nat.le_of_ble_eq_true rfl⟩) cx hw [0, 1, 2, 3, 4, 5, 6, 7, 8] rfl rfl rfl (ws' := WM g a s m im wa L R rf nu hi lm rn pl sd) (rfl) (fun H locs hw => ?_)
                  refine W.eq (g2 := F0 m9 5 ls [.int (bI (psB s (nI k)))]) rfl ?_
                  refine lv_if_ne (tgt := 14) hx hb dX9_sneeze_5 (by decide) (fun c_5 => ?_) (fun c_5 => absurd c_5 (by rw [hps_p]; decide))
                  refine lv_iload_n hx hb dX9_sneeze_14 rfl (lv_at hl 2 rfl) ?_
                  refine lv_if_lt (tgt := 28) hx hb dX9_sneeze_15 (by decide) (fun c_9 => absurd c_9 hz_n) (fun c_9 => ?_)
                  refine lv_iload hx hb dX9_sneeze_18 (lv_at hl 4 rfl) ?_
                  refine lv_if_lt (tgt := 28) hx hb dX9_sneeze_20 (by decide) (fun c_9 => absurd c_9 hz_v) (fun c_9 => ?_)
                  refine lv_iload_n hx hb dX9_sneeze_23 rfl (lv_at hl 3 rfl) ?_
                  refine lv_iconst (v := 2) hx hb dX9_sneeze_24 (by decide) ?_
                  refine lv_icmp_ge (tgt := 35) hx hb dX9_sneeze_25 (by decide) (fun c_9 => ?_) (fun c_9 => absurd (Int32.not_lt.mp h2) c_9)
                  refine lv_iload_n hx hb dX9_sneeze_35 rfl (lv_at hl 2 rfl) ?_
                  refine lv_bipush (v := 7) hx hb dX9_sneeze_36 (by decide) ?_
                  refine lv_icmp_gt (tgt := 54) hx hb dX9_sneeze_38 (by decide) (fun c_9 => absurd c_9 h7) (fun c_9 => ?_)
                  refine lv_iload_n hx hb dX9_sneeze_41 rfl (lv_at hl 3 rfl) ?_
                  refine lv_bipush (v := 20) hx hb dX9_sneeze_42 (by decide) ?_
                  refine lv_icmp_gt (tgt := 54) hx hb dX9_sneeze_44 (by decide) (fun c_9 => absurd c_9 h20) (fun c_9 => ?_)
                  refine lv_iload hx hb dX9_sneeze_47 (lv_at hl 4 rfl) ?_
                  refine lv_bipush (v := 99) hx hb dX9_sneeze_49 (by decide) ?_
                  refine lv_icmp_le (tgt := 61) hx hb dX9_sneeze_51 (by decide) (fun c_9 => ?_) (fun c_9 => absurd (Int32.not_lt.mp h99) c_9)
                  refine lv_iload hx hb dX9_sneeze_61 (lv_at hl 5 rfl) ?_
                  refine lv_iconst (v := 0) hx hb dX9_sneeze_63 (by decide) ?_
                  refine lv_iconst (v := 1) hx hb dX9_sneeze_64 (by decide) ?_
                  refine r_det (r_S cx hw (kX9_isIn l hl9 g w9 0 1) (va_cwS 3 hts (lw_S q1240 q1241 q94 q1242) rfl rfl rfl (by decide +kernel) ⟨Nat.le_of_ble_eq_true rfl, Nat.le_of_ble_eq_true rfl⟩) [] rfl rfl rfl hl.1 rfl (Nat.le_of_ble_eq_true rfl) dX9_sneeze_65 ⟨Nat.le_of_ble_eq_true rfl, Nat.le_of_ble_eq_true rfl⟩) cx hw [] rfl rfl rfl (ws' := WM g a s m im wa L R rf nu hi lm rn pl sd) (rfl) (fun H locs hw => ?_)
                  refine W.eq (g2 := F0 m9 68 ls [.int (bI (isInB w9 0 1))]) rfl ?_
                  refine lv_if_ne (tgt := 78) hx hb dX9_sneeze_68 (by decide) (fun c_68 => absurd c_68 (by rw [hin_w9]; decide)) (fun c_68 => ?_)
                  refine lv_aload_n hx hb dX9_sneeze_71 rfl (lv_at hl 0 rfl) ?_
                  refine lv_bipush (v := (-2)) hx hb dX9_sneeze_72 (by decide) ?_
                  refine r_det (r_V cx hw (kX9_noWide l hl9 g a s m im wa L R rf nu hi lm rn pl sd (-2) (by unfold okC; decide)) (cwV 1 hts (lw_V q1455 q1457 qs82 q94 q1458) rfl rfl rfl (by decide +kernel) ⟨Nat.le_of_ble_eq_true rfl, Nat.le_of_ble_eq_true rfl⟩) (r_recv hK hw (k := 0) (ci := 8) rfl rfl) [0, 1, 2, 3, 4, 5, 6, 7, 8] rfl rfl rfl hl.1 rfl (Nat.le_of_ble_eq_true rfl) dX9_sneeze_74 ⟨Nat.le_of_ble_eq_true rfl, Nat.le_of_ble_eq_true rfl⟩) cx hw [0, 1, 2, 3, 4, 5, 6, 7, 8] rfl rfl rfl (ws' := WM g a s m im wa L R (rfU rf (-2)) nu hi lm rn pl sd) (rfl) (fun H locs hw => ?_)
                  refine W.eq (g2 := F0 m9 77 ls [.long (4000000000000000000 - ((-2) : Int32).toInt64)]) rfl ?_
                  exact r_lret cx hw (⟨_, by rw [ansL_n hne, hW], by rw [rfA_n hne, hW]⟩) (Nat.le_of_ble_eq_true rfl) (Nat.le_of_ble_eq_true rfl) dX9_sneeze_77
  · skip
    have hps_p : psB s p = false := by simpa using hps_p
    have hW : wSnz s p n t v w9 = -1 := by simp [wSnz, hps_p]
    have hne : ¬ wSnz s p n t v w9 = 0 := by rw [hW]; decide
    refine MC.of (by decide) (Nat.le_of_ble_eq_true rfl) ?_
    intro p9 e9 s9 m9 args9 below9 meth9 c9 A9 ls cx htab hw hl
    have hx := cx.1
    have hb := cx.2.1
    have hts := cx.2.2.2.2.1
    have hK := cx.2.2.2.2.2.2.2.1
    have hl : lv_has ls 14 [(0, .ref (a 0)), (1, .int p), (2, .int n), (3, .int t), (4, .int v), (5, .int w9)] := hl
    refine lv_aload_n hx hb dX9_sneeze_0 rfl (lv_at hl 0 rfl) ?_
    refine lv_iload_n hx hb dX9_sneeze_1 rfl (lv_at hl 1 rfl) ?_
    refine r_det (r_V cx hw (kX9_isPerson l hl9 g a s m im wa L R rf nu hi lm rn pl sd p) (cwV 1 hts (lw_V q1257 q1259 qs72 q94 q1260) rfl rfl rfl (by decide +kernel) ⟨Nat.le_of_ble_eq_true rfl, Nat.le_of_ble_eq_true rfl⟩) (r_recv hK hw (k := 0) (ci := 8) rfl rfl) [0, 1, 2, 3, 4, 5, 6, 7, 8] rfl rfl rfl hl.1 rfl (Nat.le_of_ble_eq_true rfl) dX9_sneeze_2 ⟨Nat.le_of_ble_eq_true rfl, Nat.le_of_ble_eq_true rfl⟩) cx hw [0, 1, 2, 3, 4, 5, 6, 7, 8] rfl rfl rfl (ws' := WM g a s m im wa L R rf nu hi lm rn pl sd) (rfl) (fun H locs hw => ?_)
    refine W.eq (g2 := F0 m9 5 ls [.int (bI (psB s p))]) rfl ?_
    refine lv_if_ne (tgt := 14) hx hb dX9_sneeze_5 (by decide) (fun c_5 => absurd c_5 (by rw [hps_p]; decide)) (fun c_5 => ?_)
    refine lv_aload_n hx hb dX9_sneeze_8 rfl (lv_at hl 0 rfl) ?_
    refine lv_iconst (v := (-1)) hx hb dX9_sneeze_9 (by decide) ?_
    refine r_det (r_V cx hw (kX9_noWide l hl9 g a s m im wa L R rf nu hi lm rn pl sd (-1) (by unfold okC; decide)) (cwV 1 hts (lw_V q1455 q1457 qs82 q94 q1458) rfl rfl rfl (by decide +kernel) ⟨Nat.le_of_ble_eq_true rfl, Nat.le_of_ble_eq_true rfl⟩) (r_recv hK hw (k := 0) (ci := 8) rfl rfl) [0, 1, 2, 3, 4, 5, 6, 7, 8] rfl rfl rfl hl.1 rfl (Nat.le_of_ble_eq_true rfl) dX9_sneeze_10 ⟨Nat.le_of_ble_eq_true rfl, Nat.le_of_ble_eq_true rfl⟩) cx hw [0, 1, 2, 3, 4, 5, 6, 7, 8] rfl rfl rfl (ws' := WM g a s m im wa L R (rfU rf (-1)) nu hi lm rn pl sd) (rfl) (fun H locs hw => ?_)
    refine W.eq (g2 := F0 m9 13 ls [.long (4000000000000000000 - ((-1) : Int32).toInt64)]) rfl ?_
    exact r_lret cx hw (⟨_, by rw [ansL_n hne, hW], by rw [rfA_n hne, hW]⟩) (Nat.le_of_ble_eq_true rfl) (Nat.le_of_ble_eq_true rfl) dX9_sneeze_13

set_option maxHeartbeats 4000000 in
set_option maxRecDepth 100000 in
theorem kX9_lots (l : Launch) (hl9 : l.stackTraces = false) (g : GG) (a : Nat → Nat) (s m im wa L R rf nu : Nat → Int32) (hi lm rn pl sd : Int32) (hI : InvM s) (n z w9 : Int32) : MC l yX9_lots cX9_lots 7 (some .int) 5 111 0 0 g [.ref (a 0), .int n, .int z, .int w9] (WM g a s m im wa L R rf nu hi lm rn pl sd) (rtE (α := (Nat → Int32) × Int32) (some (.int (ans (wLts n w9) ((ltC s w9 z (tN n)).1)))) (fun x9 => WM g a s x9.1 im wa L R (rfA (wLts n w9) rf) nu hi lm rn pl x9.2)) (noX) := by
  by_cases h1 : n < 1
  · skip
    have hW : wLts n w9 = -4 := by simp [wLts, h1]
    have hne : ¬ wLts n w9 = 0 := by rw [hW]; decide
    refine MC.of (by decide) (Nat.le_of_ble_eq_true rfl) ?_
    intro p9 e9 s9 m9 args9 below9 meth9 c9 A9 ls cx htab hw hl
    have hx := cx.1
    have hb := cx.2.1
    have hts := cx.2.2.2.2.1
    have hK := cx.2.2.2.2.2.2.2.1
    have hl : lv_has ls 7 [(0, .ref (a 0)), (1, .int n), (2, .int z), (3, .int w9)] := hl
    refine lv_iload_n hx hb dX9_lots_0 rfl (lv_at hl 1 rfl) ?_
    refine lv_iconst (v := 1) hx hb dX9_lots_1 (by decide) ?_
    refine lv_icmp_ge (tgt := 12) hx hb dX9_lots_2 (by decide) (fun c_9 => absurd h1 (Int32.not_lt.mpr c_9)) (fun c_9 => ?_)
    refine lv_aload_n hx hb dX9_lots_5 rfl (lv_at hl 0 rfl) ?_
    refine lv_bipush (v := (-4)) hx hb dX9_lots_6 (by decide) ?_
    refine r_det (r_V cx hw (kX9_no l hl9 g a s m im wa L R rf nu hi lm rn pl sd (-4) (by unfold okC; decide)) (cwV 1 hts (lw_V q1213 q1215 qs65 q94 q1216) rfl rfl rfl (by decide +kernel) ⟨Nat.le_of_ble_eq_true rfl, Nat.le_of_ble_eq_true rfl⟩) (r_recv hK hw (k := 0) (ci := 8) rfl rfl) [0, 1, 2, 3, 4, 5, 6, 7, 8] rfl rfl rfl hl.1 rfl (Nat.le_of_ble_eq_true rfl) dX9_lots_8 ⟨Nat.le_of_ble_eq_true rfl, Nat.le_of_ble_eq_true rfl⟩) cx hw [0, 1, 2, 3, 4, 5, 6, 7, 8] rfl rfl WM_adr (ws' := WM g a s m im wa L R (rfU rf (-4)) nu hi lm rn pl sd) (rfl) (fun H locs hw => ?_)
    refine W.eq (g2 := F0 m9 11 ls [.int (-4)]) rfl ?_
    exact r_iret cx hw (⟨(m, sd), by rw [ans_n hne, hW], by rw [rfA_n hne, hW]⟩) (Nat.le_of_ble_eq_true rfl) (Nat.le_of_ble_eq_true rfl) dX9_lots_11
  · skip
    by_cases h20 : 20 < n
    · skip
      have hW : wLts n w9 = -6 := by simp [wLts, h1, h20]
      have hne : ¬ wLts n w9 = 0 := by rw [hW]; decide
      refine MC.of (by decide) (Nat.le_of_ble_eq_true rfl) ?_
      intro p9 e9 s9 m9 args9 below9 meth9 c9 A9 ls cx htab hw hl
      have hx := cx.1
      have hb := cx.2.1
      have hts := cx.2.2.2.2.1
      have hK := cx.2.2.2.2.2.2.2.1
      have hl : lv_has ls 7 [(0, .ref (a 0)), (1, .int n), (2, .int z), (3, .int w9)] := hl
      refine lv_iload_n hx hb dX9_lots_0 rfl (lv_at hl 1 rfl) ?_
      refine lv_iconst (v := 1) hx hb dX9_lots_1 (by decide) ?_
      refine lv_icmp_ge (tgt := 12) hx hb dX9_lots_2 (by decide) (fun c_9 => ?_) (fun c_9 => absurd (Int32.not_lt.mp h1) c_9)
      refine lv_iload_n hx hb dX9_lots_12 rfl (lv_at hl 1 rfl) ?_
      refine lv_bipush (v := 20) hx hb dX9_lots_13 (by decide) ?_
      refine lv_icmp_le (tgt := 25) hx hb dX9_lots_15 (by decide) (fun c_9 => absurd h20 (Int32.not_lt.mpr c_9)) (fun c_9 => ?_)
      refine lv_aload_n hx hb dX9_lots_18 rfl (lv_at hl 0 rfl) ?_
      refine lv_bipush (v := (-6)) hx hb dX9_lots_19 (by decide) ?_
      refine r_det (r_V cx hw (kX9_no l hl9 g a s m im wa L R rf nu hi lm rn pl sd (-6) (by unfold okC; decide)) (cwV 1 hts (lw_V q1213 q1215 qs65 q94 q1216) rfl rfl rfl (by decide +kernel) ⟨Nat.le_of_ble_eq_true rfl, Nat.le_of_ble_eq_true rfl⟩) (r_recv hK hw (k := 0) (ci := 8) rfl rfl) [0, 1, 2, 3, 4, 5, 6, 7, 8] rfl rfl rfl hl.1 rfl (Nat.le_of_ble_eq_true rfl) dX9_lots_21 ⟨Nat.le_of_ble_eq_true rfl, Nat.le_of_ble_eq_true rfl⟩) cx hw [0, 1, 2, 3, 4, 5, 6, 7, 8] rfl rfl WM_adr (ws' := WM g a s m im wa L R (rfU rf (-6)) nu hi lm rn pl sd) (rfl) (fun H locs hw => ?_)
      refine W.eq (g2 := F0 m9 24 ls [.int (-6)]) rfl ?_
      exact r_iret cx hw (⟨(m, sd), by rw [ans_n hne, hW], by rw [rfA_n hne, hW]⟩) (Nat.le_of_ble_eq_true rfl) (Nat.le_of_ble_eq_true rfl) dX9_lots_24
    · skip
      obtain ⟨q, hq, rfl⟩ := nI_rng (M := 20) (by decide) (Int32.le_trans (by decide) (Int32.not_lt.mp h1)) (Int32.not_lt.mp h20)
      have eq : tN (nI q) = q := tN_nI (by omega)
      by_cases hin_w9 : isInB w9 0 1 = true
      · skip
        have hW : wLts (nI q) w9 = 0 := by simp [wLts, h1, h20, wBit, hin_w9]
        refine MC.of (by decide) (Nat.le_of_ble_eq_true rfl) ?_
        intro p9 e9 s9 m9 args9 below9 meth9 c9 A9 ls cx htab hw hl
        have hx := cx.1
        have hb := cx.2.1
        have hts := cx.2.2.2.2.1
        have hK := cx.2.2.2.2.2.2.2.1
        have hl : lv_has ls 7 [(0, .ref (a 0)), (1, .int (nI q)), (2, .int z), (3, .int w9)] := hl
        have J52 : ∀ (n9 j : Nat) (mm : Nat → Int32), j ≤ q → q < n9 + j → ∀ (H : Heap) (locs : List Loc) (ls : Array Slot), WS g A9 s9.heap (WM g a s mm im wa L R rf nu hi lm rn pl ((ltC s w9 z j).2)) H locs → lv_has ls 7 [(0, .ref (a 0)), (1, .int (nI q)), (3, .int w9), (4, .int ((ltC s w9 z j).1)), (5, .int (nI j))] → W p9 l e9 (rmC 5 111 0 0) s9 m9 args9 below9 meth9 c9 H locs 0 0 (vx_MQ below9 (PostA g A9 (rtE (α := (Nat → Int32) × Int32) (some (.int (ans (wLts (nI q) w9) ((ltC s w9 z (tN (nI q))).1)))) (fun x9 => WM g a s x9.1 im wa L R (rfA (wLts (nI q) w9) rf) nu hi lm rn pl x9.2))) (PxA g A9 (pxR (noX))) args9 s9 0 0 A9) (F0 m9 52 ls []) := by
          intro n9
          induction n9 with
          | zero => intro j mm hj hk9; exact absurd hk9 (by omega)
          | succ n9 ih_J52 =>
            intro j mm hj hk9  H locs ls hw hl
            refine lv_iload hx hb dX9_lots_52 (lv_at hl 4 rfl) ?_
            refine lv_iload_n hx hb dX9_lots_54 rfl (lv_at hl 1 rfl) ?_
            refine lv_icmp_ge (tgt := 140) hx hb dX9_lots_55 (by decide) (fun c_55 => ?_) (fun c_55 => ?_)
            · skip
              have c_55 : q ≤ j := (nI_leI (a := q) (b := j) (by omega) (by omega)).mp c_55
              refine lv_iload hx hb dX9_lots_140 (lv_at hl 3 rfl) ?_
              exact r_iret cx hw (⟨(mm, _), by rw [hW, ans_0, eq, show j = q by omega], by rw [hW, rfA_0]⟩) (Nat.le_of_ble_eq_true rfl) (Nat.le_of_ble_eq_true rfl) dX9_lots_142
            · skip
              have c_55 : j < q := Nat.not_le.mp (fun h9 => c_55 ((nI_leI (a := q) (b := j) (by omega) (by omega)).mpr h9))
              refine lv_aload_n hx hb dX9_lots_58 rfl (lv_at hl 0 rfl) ?_
              refine r_get cx hw in_X9 0 (ci := 8) (T := TX9) (N := 13) rfl rfl 0 (by decide) q1169 (fun _ h9 => h9) rfl dX9_lots_59 ?_
              refine lv_aload_n hx hb dX9_lots_62 rfl (lv_at hl 0 rfl) ?_
              refine r_get cx hw in_X9 0 (ci := 8) (T := TX9) (N := 13) rfl rfl 1 (by decide) q1170 (fun _ h9 => h9) rfl dX9_lots_63 ?_
              refine r_det (r_S cx hw (kX9_copies l hl9 g (a 1) (a 2) s mm) (va_cwS 2 hts (lw_S q1243 q1244 q94 q1245) rfl rfl rfl (by decide +kernel) ⟨Nat.le_of_ble_eq_true rfl, Nat.le_of_ble_eq_true rfl⟩) [1, 2] rfl rfl rfl hl.1 rfl (Nat.le_of_ble_eq_true rfl) dX9_lots_66 ⟨Nat.le_of_ble_eq_true rfl, Nat.le_of_ble_eq_true rfl⟩) cx hw [1, 2] rfl rfl rfl (ws' := WM g a s s im wa L R rf nu hi lm rn pl ((ltC s w9 z j).2)) (rfl) (fun H locs hw => ?_)
              refine W.eq (g2 := F0 m9 69 ls []) rfl ?_
              refine lv_iconst (v := 0) hx hb dX9_lots_69 (by decide) ?_
              refine lv_istore (lv' := [(6, .int 0), (0, .ref (a 0)), (1, .int (nI q)), (3, .int w9), (4, .int ((ltC s w9 z j).1)), (5, .int (nI j))]) hx hb dX9_lots_70 hl (by decide) rfl (fun ls hl => ?_)
              have J72 : ∀ (n9 i : Nat) , i ≤ 4 → 4 < n9 + i → ∀ (H : Heap) (locs : List Loc) (ls : Array Slot), WS g A9 s9.heap (WM g a s ((ltA s ((ltC s w9 z j).2) i).1) im wa L R rf nu hi lm rn pl ((ltA s ((ltC s w9 z j).2) i).2)) H locs → lv_has ls 7 [(0, .ref (a 0)), (1, .int (nI q)), (3, .int w9), (4, .int ((ltC s w9 z j).1)), (5, .int (nI j)), (6, .int (nI i))] → W p9 l e9 (rmC 5 111 0 0) s9 m9 args9 below9 meth9 c9 H locs 0 0 (vx_MQ below9 (PostA g A9 (rtE (α := (Nat → Int32) × Int32) (some (.int (ans (wLts (nI q) w9) ((ltC s w9 z (tN (nI q))).1)))) (fun x9 => WM g a s x9.1 im wa L R (rfA (wLts (nI q) w9) rf) nu hi lm rn pl x9.2))) (PxA g A9 (pxR (noX))) args9 s9 0 0 A9) (F0 m9 72 ls []) := by
                intro n9
                induction n9 with
                | zero => intro i  hj hk9; exact absurd hk9 (by omega)
                | succ n9 ih_J72 =>
                  intro i  hj hk9  H locs ls hw hl
                  refine lv_iload hx hb dX9_lots_72 (lv_at hl 5 rfl) ?_
                  refine lv_iconst (v := 4) hx hb dX9_lots_74 (by decide) ?_
                  refine lv_icmp_ge (tgt := 105) hx hb dX9_lots_75 (by decide) (fun c_75 => ?_) (fun c_75 => ?_)
                  · skip
                    have c_75 : 4 ≤ i := (nI_leI (a := 4) (b := i) (by omega) (by omega)).mp c_75
                    refine lv_iload hx hb dX9_lots_105 (lv_at hl 3 rfl) ?_
                    refine lv_iload_n hx hb dX9_lots_107 rfl (lv_at hl 2 rfl) ?_
                    refine lv_if_ne (tgt := 121) hx hb dX9_lots_108 (by decide) (fun c_108 => ?_) (fun c_108 => ?_)
                    · skip
                      refine lv_aload_n hx hb dX9_lots_121 rfl (lv_at hl 0 rfl) ?_
                      refine r_get cx hw in_X9 0 (ci := 8) (T := TX9) (N := 13) rfl rfl 1 (by decide) q1170 (fun _ h9 => h9) rfl dX9_lots_122 ?_
                      refine r_det (r_S cx hw (kX9_dryOnes l hl9 g (a 2) ((ltA s ((ltC s w9 z j).2) i).1) (ltA_I hI ((ltC s w9 z j).2) i)) (va_cwS 1 hts (lw_S q1385 q1386 q94 q1387) rfl rfl rfl (by decide +kernel) ⟨Nat.le_of_ble_eq_true rfl, Nat.le_of_ble_eq_true rfl⟩) [2] rfl rfl rfl hl.1 rfl (Nat.le_of_ble_eq_true rfl) dX9_lots_125 ⟨Nat.le_of_ble_eq_true rfl, Nat.le_of_ble_eq_true rfl⟩) cx hw [2] rfl rfl rfl (ws' := WM g a s ((ltA s ((ltC s w9 z j).2) i).1) im wa L R rf nu hi lm rn pl ((ltA s ((ltC s w9 z j).2) i).2)) (rfl) (fun H locs hw => ?_)
                      refine W.eq (g2 := F0 m9 128 ls [.int (dryF ((ltA s ((ltC s w9 z j).2) i).1)), .int ((ltC s w9 z j).1)]) rfl ?_
                      refine r_det (r_S cx hw (kX9_bits l hl9 g (dryF ((ltA s ((ltC s w9 z j).2) i).1))) (va_cwS 1 hts (lw_S q1299 q1300 q94 q1301) rfl rfl rfl (by decide +kernel) ⟨Nat.le_of_ble_eq_true rfl, Nat.le_of_ble_eq_true rfl⟩) [] rfl rfl rfl hl.1 rfl (Nat.le_of_ble_eq_true rfl) dX9_lots_128 ⟨Nat.le_of_ble_eq_true rfl, Nat.le_of_ble_eq_true rfl⟩) cx hw [] rfl rfl rfl (ws' := WM g a s ((ltA s ((ltC s w9 z j).2) i).1) im wa L R rf nu hi lm rn pl ((ltA s ((ltC s w9 z j).2) i).2)) (rfl) (fun H locs hw => ?_)
                      refine W.eq (g2 := F0 m9 131 ls [.int (bitsF (dryF ((ltA s ((ltC s w9 z j).2) i).1))), .int ((ltC s w9 z j).1)]) rfl ?_
                      have e8 : i = 4 := by omega
                      refine r_topi (x' := ltV w9 (ltA s ((ltC s w9 z j).2) 4).1) (by rw [e8, ltV, if_neg c_108]) ?_
                      refine lv_iadd hx hb dX9_lots_131 ?_
                      refine lv_istore (lv' := [(4, .int (((ltC s w9 z j).1) + (ltV w9 (ltA s ((ltC s w9 z j).2) 4).1))), (0, .ref (a 0)), (1, .int (nI q)), (3, .int w9), (5, .int (nI j)), (6, .int (nI i))]) hx hb dX9_lots_132 hl (by decide) rfl (fun ls hl => ?_)
                      refine lv_iinc (v := nI (j + 1)) (lv' := [(5, .int (nI (j + 1))), (4, .int (((ltC s w9 z j).1) + (ltV w9 (ltA s ((ltC s w9 z j).2) 4).1))), (0, .ref (a 0)), (1, .int (nI q)), (3, .int w9), (6, .int (nI i))]) hx hb dX9_lots_134 hl (k := 4) rfl (nI_1 j) (by decide) rfl (fun ls hl => ?_)
                      refine lv_goto (tgt := 52) hx hb dX9_lots_137 (by decide) ?_
                      exact ih_J52 (j + 1) _ (by omega) (by omega)  _ _ _ (WS.to hw (by rw [e8]; rfl)) (lv_sub hl [2, 3, 4, 1, 0] rfl)
                    · skip
                      refine lv_aload_n hx hb dX9_lots_111 rfl (lv_at hl 0 rfl) ?_
                      refine r_get cx hw in_X9 0 (ci := 8) (T := TX9) (N := 13) rfl rfl 1 (by decide) q1170 (fun _ h9 => h9) rfl dX9_lots_112 ?_
                      refine r_det (r_S cx hw (kX9_allHave l hl9 g (a 2) ((ltA s ((ltC s w9 z j).2) i).1) (ltA_I hI ((ltC s w9 z j).2) i)) (va_cwS 1 hts (lw_S q1357 q1358 q94 q1359) rfl rfl rfl (by decide +kernel) ⟨Nat.le_of_ble_eq_true rfl, Nat.le_of_ble_eq_true rfl⟩) [2] rfl rfl rfl hl.1 rfl (Nat.le_of_ble_eq_true rfl) dX9_lots_115 ⟨Nat.le_of_ble_eq_true rfl, Nat.le_of_ble_eq_true rfl⟩) cx hw [2] rfl rfl rfl (ws' := WM g a s ((ltA s ((ltC s w9 z j).2) i).1) im wa L R rf nu hi lm rn pl ((ltA s ((ltC s w9 z j).2) i).2)) (rfl) (fun H locs hw => ?_)
                      refine W.eq (g2 := F0 m9 118 ls [.int (allF ((ltA s ((ltC s w9 z j).2) i).1)), .int ((ltC s w9 z j).1)]) rfl ?_
                      refine lv_goto (tgt := 131) hx hb dX9_lots_118 (by decide) ?_
                      have e8 : i = 4 := by omega
                      refine r_topi (x' := ltV w9 (ltA s ((ltC s w9 z j).2) 4).1) (by rw [e8, ltV, if_pos c_108]) ?_
                      refine lv_iadd hx hb dX9_lots_131 ?_
                      refine lv_istore (lv' := [(4, .int (((ltC s w9 z j).1) + (ltV w9 (ltA s ((ltC s w9 z j).2) 4).1))), (0, .ref (a 0)), (1, .int (nI q)), (3, .int w9), (5, .int (nI j)), (6, .int (nI i))]) hx hb dX9_lots_132 hl (by decide) rfl (fun ls hl => ?_)
                      refine lv_iinc (v := nI (j + 1)) (lv' := [(5, .int (nI (j + 1))), (4, .int (((ltC s w9 z j).1) + (ltV w9 (ltA s ((ltC s w9 z j).2) 4).1))), (0, .ref (a 0)), (1, .int (nI q)), (3, .int w9), (6, .int (nI i))]) hx hb dX9_lots_134 hl (k := 4) rfl (nI_1 j) (by decide) rfl (fun ls hl => ?_)
                      refine lv_goto (tgt := 52) hx hb dX9_lots_137 (by decide) ?_
                      exact ih_J52 (j + 1) _ (by omega) (by omega)  _ _ _ (WS.to hw (by rw [e8]; rfl)) (lv_sub hl [2, 3, 4, 1, 0] rfl)
                  · skip
                    have c_75 : i < 4 := Nat.not_le.mp (fun h9 => c_75 ((nI_leI (a := 4) (b := i) (by omega) (by omega)).mpr h9))
                    refine lv_aload_n hx hb dX9_lots_78 rfl (lv_at hl 0 rfl) ?_
                    refine r_get cx hw in_X9 0 (ci := 8) (T := TX9) (N := 13) rfl rfl 1 (by decide) q1170 (fun _ h9 => h9) rfl dX9_lots_79 ?_
                    refine lv_iconst (v := 3) hx hb dX9_lots_82 (by decide) ?_
                    refine lv_aload_n hx hb dX9_lots_83 rfl (lv_at hl 0 rfl) ?_
                    refine lv_bipush (v := 31) hx hb dX9_lots_84 (by decide) ?_
                    refine r_det (r_V cx hw (kX9_drawn l hl9 g a s ((ltA s ((ltC s w9 z j).2) i).1) im wa L R rf nu hi lm rn pl ((ltA s ((ltC s w9 z j).2) i).2) ) (cwV 1 hts (lw_V q1490 q1492 qs83 q94 q1493) rfl rfl rfl (by decide +kernel) ⟨Nat.le_of_ble_eq_true rfl, Nat.le_of_ble_eq_true rfl⟩) (r_recv hK hw (k := 0) (ci := 8) rfl rfl) [0, 1, 2, 3, 4, 5, 6, 7, 8] rfl rfl rfl hl.1 rfl (Nat.le_of_ble_eq_true rfl) dX9_lots_86 ⟨Nat.le_of_ble_eq_true rfl, Nat.le_of_ble_eq_true rfl⟩) cx hw [0, 1, 2, 3, 4, 5, 6, 7, 8] rfl rfl WM_adr (ws' := WM g a s ((ltA s ((ltC s w9 z j).2) i).1) im wa L R rf nu hi lm rn pl (nxZ ((ltA s ((ltC s w9 z j).2) i).2))) (rfl) (fun H locs hw => ?_)
                    refine W.eq (g2 := F0 m9 89 ls [.int (drZ (nxZ ((ltA s ((ltC s w9 z j).2) i).2))), .int 3, .ref (a 2)]) rfl ?_
                    refine r_iast cx hw 2 rfl 3 rfl (by omega) (Nat.le_of_ble_eq_true rfl) dX9_lots_89 (fun H locs hw => ?_)
                    have hw : WS g A9 s9.heap (WM g a s (upd ((ltA s ((ltC s w9 z j).2) i).1) 3 (drZ (nxZ ((ltA s ((ltC s w9 z j).2) i).2)))) im wa L R rf nu hi lm rn pl (nxZ ((ltA s ((ltC s w9 z j).2) i).2))) H locs := hw
                    refine lv_aload_n hx hb dX9_lots_90 rfl (lv_at hl 0 rfl) ?_
                    refine r_get cx hw in_X9 0 (ci := 8) (T := TX9) (N := 13) rfl rfl 1 (by decide) q1170 (fun _ h9 => h9) rfl dX9_lots_91 ?_
                    refine lv_bipush (v := 12) hx hb dX9_lots_94 (by decide) ?_
                    refine r_det (r_S cx hw (kX9_hoursOn l hl9 g (a 2) (upd ((ltA s ((ltC s w9 z j).2) i).1) 3 (drZ (nxZ ((ltA s ((ltC s w9 z j).2) i).2)))) (InvM_upd (ltA_I hI ((ltC s w9 z j).2) i) (by decide) (fun j => by omega)) 12 (by omega)) (va_cwS 2 hts (lw_S q1261 q1262 q94 q1263) rfl rfl rfl (by decide +kernel) ⟨Nat.le_of_ble_eq_true rfl, Nat.le_of_ble_eq_true rfl⟩) [2] rfl rfl rfl hl.1 rfl (Nat.le_of_ble_eq_true rfl) dX9_lots_96 ⟨Nat.le_of_ble_eq_true rfl, Nat.le_of_ble_eq_true rfl⟩) cx hw [2] rfl rfl rfl (ws' := WM g a s (hoursF (upd ((ltA s ((ltC s w9 z j).2) i).1) 3 (drZ (nxZ ((ltA s ((ltC s w9 z j).2) i).2)))) 12) im wa L R rf nu hi lm rn pl (nxZ ((ltA s ((ltC s w9 z j).2) i).2))) (rfl) (fun H locs hw => ?_)
                    refine W.eq (g2 := F0 m9 99 ls []) rfl ?_
                    refine lv_iinc (v := nI (i + 1)) (lv' := [(6, .int (nI (i + 1))), (0, .ref (a 0)), (1, .int (nI q)), (3, .int w9), (4, .int ((ltC s w9 z j).1)), (5, .int (nI j))]) hx hb dX9_lots_99 hl (k := 5) rfl (nI_1 i) (by decide) rfl (fun ls hl => ?_)
                    refine lv_goto (tgt := 72) hx hb dX9_lots_102 (by decide) ?_
                    exact ih_J72 (i + 1)  (by omega) (by omega)  _ _ _ (hw) (lv_sub hl [1, 2, 3, 4, 5, 0] rfl)
              exact J72 (4 + 1) 0  (by omega) (by omega)  _ _ _ (hw) (lv_sub hl [1, 2, 3, 4, 5, 0] rfl)
        refine lv_iload_n hx hb dX9_lots_0 rfl (lv_at hl 1 rfl) ?_
        refine lv_iconst (v := 1) hx hb dX9_lots_1 (by decide) ?_
        refine lv_icmp_ge (tgt := 12) hx hb dX9_lots_2 (by decide) (fun c_9 => ?_) (fun c_9 => absurd (Int32.not_lt.mp h1) c_9)
        refine lv_iload_n hx hb dX9_lots_12 rfl (lv_at hl 1 rfl) ?_
        refine lv_bipush (v := 20) hx hb dX9_lots_13 (by decide) ?_
        refine lv_icmp_le (tgt := 25) hx hb dX9_lots_15 (by decide) (fun c_9 => ?_) (fun c_9 => absurd (Int32.not_lt.mp h20) c_9)
        refine lv_iload_n hx hb dX9_lots_25 rfl (lv_at hl 3 rfl) ?_
        refine lv_iconst (v := 0) hx hb dX9_lots_26 (by decide) ?_
        refine lv_iconst (v := 1) hx hb dX9_lots_27 (by decide) ?_
        refine r_det (r_S cx hw (kX9_isIn l hl9 g w9 0 1) (va_cwS 3 hts (lw_S q1240 q1241 q94 q1242) rfl rfl rfl (by decide +kernel) ⟨Nat.le_of_ble_eq_true rfl, Nat.le_of_ble_eq_true rfl⟩) [] rfl rfl rfl hl.1 rfl (Nat.le_of_ble_eq_true rfl) dX9_lots_28 ⟨Nat.le_of_ble_eq_true rfl, Nat.le_of_ble_eq_true rfl⟩) cx hw [] rfl rfl rfl (ws' := WM g a s m im wa L R rf nu hi lm rn pl sd) (rfl) (fun H locs hw => ?_)
        refine W.eq (g2 := F0 m9 31 ls [.int (bI (isInB w9 0 1))]) rfl ?_
        refine lv_if_ne (tgt := 41) hx hb dX9_lots_31 (by decide) (fun c_31 => ?_) (fun c_31 => absurd c_31 (by rw [hin_w9]; decide))
        refine lv_aload_n hx hb dX9_lots_41 rfl (lv_at hl 0 rfl) ?_
        refine lv_iload_n hx hb dX9_lots_42 rfl (lv_at hl 2 rfl) ?_
        refine r_put cx hw in_X9 tyX9 tyX9_ok nmX9 0 (ci := 8) (T := TX9) (N := 13) rfl rfl 12 (by decide) q1181 (fun _ h9 => h9) rfl (rfl) (rfl) (Nat.le_of_ble_eq_true rfl) dX9_lots_43 (fun H locs hw => ?_)
        have hw : WS g A9 s9.heap (WM g a s m im wa L R rf nu hi lm rn pl z) H locs := hw
        refine lv_iconst (v := 0) hx hb dX9_lots_46 (by decide) ?_
        refine lv_istore (lv' := [(4, .int 0), (0, .ref (a 0)), (1, .int (nI q)), (2, .int z), (3, .int w9)]) hx hb dX9_lots_47 hl (by decide) rfl (fun ls hl => ?_)
        refine lv_iconst (v := 0) hx hb dX9_lots_49 (by decide) ?_
        refine lv_istore (lv' := [(5, .int 0), (4, .int 0), (0, .ref (a 0)), (1, .int (nI q)), (2, .int z), (3, .int w9)]) hx hb dX9_lots_50 hl (by decide) rfl (fun ls hl => ?_)
        exact J52 (q + 1) 0 m (by omega) (by omega)  _ _ _ (hw) (lv_sub hl [2, 3, 5, 1, 0] rfl)
      · skip
        have hin_w9 : isInB w9 0 1 = false := by simpa using hin_w9
        have hW : wLts (nI q) w9 = -2 := by simp [wLts, h1, h20, wBit, hin_w9]
        have hne : ¬ wLts (nI q) w9 = 0 := by rw [hW]; decide
        refine MC.of (by decide) (Nat.le_of_ble_eq_true rfl) ?_
        intro p9 e9 s9 m9 args9 below9 meth9 c9 A9 ls cx htab hw hl
        have hx := cx.1
        have hb := cx.2.1
        have hts := cx.2.2.2.2.1
        have hK := cx.2.2.2.2.2.2.2.1
        have hl : lv_has ls 7 [(0, .ref (a 0)), (1, .int (nI q)), (2, .int z), (3, .int w9)] := hl
        refine lv_iload_n hx hb dX9_lots_0 rfl (lv_at hl 1 rfl) ?_
        refine lv_iconst (v := 1) hx hb dX9_lots_1 (by decide) ?_
        refine lv_icmp_ge (tgt := 12) hx hb dX9_lots_2 (by decide) (fun c_9 => ?_) (fun c_9 => absurd (Int32.not_lt.mp h1) c_9)
        refine lv_iload_n hx hb dX9_lots_12 rfl (lv_at hl 1 rfl) ?_
        refine lv_bipush (v := 20) hx hb dX9_lots_13 (by decide) ?_
        refine lv_icmp_le (tgt := 25) hx hb dX9_lots_15 (by decide) (fun c_9 => ?_) (fun c_9 => absurd (Int32.not_lt.mp h20) c_9)
        refine lv_iload_n hx hb dX9_lots_25 rfl (lv_at hl 3 rfl) ?_
        refine lv_iconst (v := 0) hx hb dX9_lots_26 (by decide) ?_
        refine lv_iconst (v := 1) hx hb dX9_lots_27 (by decide) ?_
        refine r_det (r_S cx hw (kX9_isIn l hl9 g w9 0 1) (va_cwS 3 hts (lw_S q1240 q1241 q94 q1242) rfl rfl rfl (by decide +kernel) ⟨Nat.le_of_ble_eq_true rfl, Nat.le_of_ble_eq_true rfl⟩) [] rfl rfl rfl hl.1 rfl (Nat.le_of_ble_eq_true rfl) dX9_lots_28 ⟨Nat.le_of_ble_eq_true rfl, Nat.le_of_ble_eq_true rfl⟩) cx hw [] rfl rfl rfl (ws' := WM g a s m im wa L R rf nu hi lm rn pl sd) (rfl) (fun H locs hw => ?_)
        refine W.eq (g2 := F0 m9 31 ls [.int (bI (isInB w9 0 1))]) rfl ?_
        refine lv_if_ne (tgt := 41) hx hb dX9_lots_31 (by decide) (fun c_31 => absurd c_31 (by rw [hin_w9]; decide)) (fun c_31 => ?_)
        refine lv_aload_n hx hb dX9_lots_34 rfl (lv_at hl 0 rfl) ?_
        refine lv_bipush (v := (-2)) hx hb dX9_lots_35 (by decide) ?_
        refine r_det (r_V cx hw (kX9_no l hl9 g a s m im wa L R rf nu hi lm rn pl sd (-2) (by unfold okC; decide)) (cwV 1 hts (lw_V q1213 q1215 qs65 q94 q1216) rfl rfl rfl (by decide +kernel) ⟨Nat.le_of_ble_eq_true rfl, Nat.le_of_ble_eq_true rfl⟩) (r_recv hK hw (k := 0) (ci := 8) rfl rfl) [0, 1, 2, 3, 4, 5, 6, 7, 8] rfl rfl rfl hl.1 rfl (Nat.le_of_ble_eq_true rfl) dX9_lots_37 ⟨Nat.le_of_ble_eq_true rfl, Nat.le_of_ble_eq_true rfl⟩) cx hw [0, 1, 2, 3, 4, 5, 6, 7, 8] rfl rfl WM_adr (ws' := WM g a s m im wa L R (rfU rf (-2)) nu hi lm rn pl sd) (rfl) (fun H locs hw => ?_)
        refine W.eq (g2 := F0 m9 40 ls [.int (-2)]) rfl ?_
        exact r_iret cx hw (⟨(m, sd), by rw [ans_n hne, hW], by rw [rfA_n hne, hW]⟩) (Nat.le_of_ble_eq_true rfl) (Nat.le_of_ble_eq_true rfl) dX9_lots_40

set_option maxHeartbeats 4000000 in
set_option maxRecDepth 100000 in
theorem kX9_whatIs (l : Launch) (hl9 : l.stackTraces = false) (g : GG) (a : Nat → Nat) (s m im wa L R rf nu : Nat → Int32) (hi lm rn pl sd : Int32) (hI : InvM s) (p w9 : Int32)(hr9 : tN rn ≤ 16) (er9 : rn = nI (tN rn)) : MC l yX9_whatIs cX9_whatIs 7 (some .int) 4 89 0 0 g [.ref (a 0), .int p, .int w9] (WM g a s m im wa L R rf nu hi lm rn pl sd) (rtE (α := Nat → Int32) (some (.int (ans (wWht s p w9) (vWht s R rn p w9)))) (fun x9 => WM g a s x9 im wa L R (rfA (wWht s p w9) rf) nu hi lm rn pl sd)) (noX) := by
  by_cases hps_p : psB s p = true
  · skip
    obtain ⟨k, hk, rfl⟩ := psB_rng hI hps_p
    have hN := hI.1
    have ek : tN (nI k) = k := tN_nI (by omega)
    by_cases hin_w9 : isInB w9 0 1 = true
    · skip
      obtain ⟨q, hq, rfl⟩ : ∃ q9 : Nat, q9 ≤ 1 ∧ w9 = nI q9 := by
        have h9 := hin_w9
        simp only [isInB, Bool.and_eq_true, decide_eq_true_eq] at h9
        exact nI_rng (M := 1) (by decide) h9.1 h9.2
      have eq : tN (nI q) = q := tN_nI (by omega)
      have hW : wWht s (nI k) (nI q) = 0 := by simp [wWht, hps_p, wBit, hin_w9]
      refine MC.of (by decide) (Nat.le_of_ble_eq_true rfl) ?_
      intro p9 e9 s9 m9 args9 below9 meth9 c9 A9 ls cx htab hw hl
      have hx := cx.1
      have hb := cx.2.1
      have hts := cx.2.2.2.2.1
      have hK := cx.2.2.2.2.2.2.2.1
      have hl : lv_has ls 7 [(0, .ref (a 0)), (1, .int (nI k)), (2, .int (nI q))] := hl
      obtain ⟨B, hB, hB9⟩ : ∃ B, B = (if q = 0 then 6 else 10) ∧ B ≤ 10 := ⟨_, rfl, by split <;> decide⟩
      have J35 : ∀ (n9 j : Nat) (mm : Nat → Int32), j ≤ B → B < n9 + j → ∀ (H : Heap) (locs : List Loc) (ls : Array Slot), WS g A9 s9.heap (WM g a s mm im wa L R rf nu hi lm rn pl sd) H locs → lv_has ls 7 [(0, .ref (a 0)), (1, .int (nI k)), (2, .int (nI q)), (3, .int (whA s R (tN rn) k q j)), (4, .int (nI j))] → W p9 l e9 (rmC 4 89 0 0) s9 m9 args9 below9 meth9 c9 H locs 0 0 (vx_MQ below9 (PostA g A9 (rtE (α := Nat → Int32) (some (.int (ans (wWht s (nI k) (nI q)) (vWht s R rn (nI k) (nI q))))) (fun x9 => WM g a s x9 im wa L R (rfA (wWht s (nI k) (nI q)) rf) nu hi lm rn pl sd))) (PxA g A9 (pxR (noX))) args9 s9 0 0 A9) (F0 m9 35 ls []) := by
        intro n9
        induction n9 with
        | zero => intro j mm hj hk9; exact absurd hk9 (by omega)
        | succ n9 ih_J35 =>
          intro j mm hj hk9  H locs ls hw hl
          refine lv_iload hx hb dX9_whatIs_35 (lv_at hl 4 rfl) ?_
          refine lv_iload_n hx hb dX9_whatIs_37 rfl (lv_at hl 2 rfl) ?_
          refine lv_if_ne (tgt := 46) hx hb dX9_whatIs_38 (by decide) (fun c_38 => ?_) (fun c_38 => ?_)
          · skip
            have c_38 : ¬ q = 0 := fun h9 => c_38 (by rw [h9]; rfl)
            refine lv_bipush (v := 10) hx hb dX9_whatIs_46 (by decide) ?_
            refine r_topi (x' := nI B) (by rw [hB, if_neg c_38]; rfl) ?_
            refine lv_icmp_ge (tgt := 155) hx hb dX9_whatIs_48 (by decide) (fun c_48 => ?_) (fun c_48 => ?_)
            · skip
              have c_48 : B ≤ j := (nI_leI (a := B) (b := j) (by omega) (by omega)).mp c_48
              refine lv_iload_n hx hb dX9_whatIs_155 rfl (lv_at hl 3 rfl) ?_
              exact r_iret cx hw (⟨_, by rw [hW, ans_0, vWht, ek, eq, ← hB, show j = B by omega], by rw [hW, rfA_0]⟩) (Nat.le_of_ble_eq_true rfl) (Nat.le_of_ble_eq_true rfl) dX9_whatIs_156
            · skip
              have c_48 : j < B := Nat.not_le.mp (fun h9 => c_48 ((nI_leI (a := B) (b := j) (by omega) (by omega)).mpr h9))
              refine lv_iconst (v := 1) hx hb dX9_whatIs_51 (by decide) ?_
              refine lv_istore (lv' := [(5, .int 1), (0, .ref (a 0)), (1, .int (nI k)), (2, .int (nI q)), (3, .int (whA s R (tN rn) k q j)), (4, .int (nI j))]) hx hb dX9_whatIs_52 hl (by decide) rfl (fun ls hl => ?_)
              refine lv_aload_n hx hb dX9_whatIs_54 rfl (lv_at hl 1 rfl) ?_
              refine r_get cx hw in_X9 0 (ci := 8) (T := TX9) (N := 13) rfl rfl 0 (by decide) q1169 (fun _ h9 => h9) rfl dX9_whatIs_55 ?_
              refine lv_aload_n hx hb dX9_whatIs_58 rfl (lv_at hl 1 rfl) ?_
              refine r_get cx hw in_X9 0 (ci := 8) (T := TX9) (N := 13) rfl rfl 1 (by decide) q1170 (fun _ h9 => h9) rfl dX9_whatIs_59 ?_
              refine r_det (r_S cx hw (kX9_copies l hl9 g (a 1) (a 2) s mm) (va_cwS 2 hts (lw_S q1243 q1244 q94 q1245) rfl rfl rfl (by decide +kernel) ⟨Nat.le_of_ble_eq_true rfl, Nat.le_of_ble_eq_true rfl⟩) [1, 2] rfl rfl rfl hl.1 rfl (Nat.le_of_ble_eq_true rfl) dX9_whatIs_62 ⟨Nat.le_of_ble_eq_true rfl, Nat.le_of_ble_eq_true rfl⟩) cx hw [1, 2] rfl rfl rfl (ws' := WM g a s s im wa L R rf nu hi lm rn pl sd) (rfl) (fun H locs hw => ?_)
              refine W.eq (g2 := F0 m9 65 ls []) rfl ?_
              refine lv_aload_n hx hb dX9_whatIs_65 rfl (lv_at hl 1 rfl) ?_
              refine r_get cx hw in_X9 0 (ci := 8) (T := TX9) (N := 13) rfl rfl 1 (by decide) q1170 (fun _ h9 => h9) rfl dX9_whatIs_66 ?_
              refine lv_iload_n hx hb dX9_whatIs_69 rfl (lv_at hl 2 rfl) ?_
              refine lv_iload_n hx hb dX9_whatIs_70 rfl (lv_at hl 3 rfl) ?_
              refine r_det (r_S cx hw (kX9_of l hl9 g k q) (va_cwS 2 hts (lw_S q1254 q1255 q94 q1256) rfl rfl rfl (by decide +kernel) ⟨Nat.le_of_ble_eq_true rfl, Nat.le_of_ble_eq_true rfl⟩) [] rfl rfl rfl hl.1 rfl (Nat.le_of_ble_eq_true rfl) dX9_whatIs_71 ⟨Nat.le_of_ble_eq_true rfl, Nat.le_of_ble_eq_true rfl⟩) cx hw [] rfl rfl rfl (ws' := WM g a s s im wa L R rf nu hi lm rn pl sd) (rfl) (fun H locs hw => ?_)
              refine W.eq (g2 := F0 m9 74 ls [.int (nI (5 + 7 * k + q)), .ref (a 2)]) rfl ?_
              refine lv_iload hx hb dX9_whatIs_74 (lv_at hl 5 rfl) ?_
              refine r_iast cx hw 2 rfl (5 + 7 * k + q) rfl (by omega) (Nat.le_of_ble_eq_true rfl) dX9_whatIs_76 (fun H locs hw => ?_)
              have hw : WS g A9 s9.heap (WM g a s (upd s (5 + 7 * k + q) (nI j)) im wa L R rf nu hi lm rn pl sd) H locs := hw
              refine lv_iconst (v := 0) hx hb dX9_whatIs_77 (by decide) ?_
              refine lv_istore (lv' := [(6, .int 0), (5, .int 1), (0, .ref (a 0)), (1, .int (nI k)), (2, .int (nI q)), (3, .int (whA s R (tN rn) k q j)), (4, .int (nI j))]) hx hb dX9_whatIs_78 hl (by decide) rfl (fun ls hl => ?_)
              have J80 : ∀ (n9 i : Nat) , i ≤ (tN rn) → (tN rn) < n9 + i → ∀ (H : Heap) (locs : List Loc) (ls : Array Slot), WS g A9 s9.heap (WM g a s (hoursF (upd s (5 + 7 * k + q) (nI j)) i) im wa L R rf nu hi lm rn pl sd) H locs → lv_has ls 7 [(0, .ref (a 0)), (1, .int (nI k)), (2, .int (nI q)), (3, .int (whA s R (tN rn) k q j)), (4, .int (nI j)), (5, .int (bI (alB (fun i => decide (hoursF (upd s (5 + 7 * k + q) (nI j)) i (5 + 7 * k + 3) = R i)) i))), (6, .int (nI i))] → W p9 l e9 (rmC 4 89 0 0) s9 m9 args9 below9 meth9 c9 H locs 0 0 (vx_MQ below9 (PostA g A9 (rtE (α := Nat → Int32) (some (.int (ans (wWht s (nI k) (nI q)) (vWht s R rn (nI k) (nI q))))) (fun x9 => WM g a s x9 im wa L R (rfA (wWht s (nI k) (nI q)) rf) nu hi lm rn pl sd))) (PxA g A9 (pxR (noX))) args9 s9 0 0 A9) (F0 m9 80 ls []) := by
                intro n9
                induction n9 with
                | zero => intro i  hj hk9; exact absurd hk9 (by omega)
                | succ n9 ih_J80 =>
                  intro i  hj hk9  H locs ls hw hl
                  refine lv_iload hx hb dX9_whatIs_80 (lv_at hl 6 rfl) ?_
                  refine lv_aload_n hx hb dX9_whatIs_82 rfl (lv_at hl 0 rfl) ?_
                  refine r_get cx hw in_X9 0 (ci := 8) (T := TX9) (N := 13) rfl rfl 9 (by decide) q1178 (fun _ h9 => h9) rfl dX9_whatIs_83 ?_
                  refine r_topi (x' := nI (tN rn)) (er9) ?_
                  refine lv_icmp_ge (tgt := 133) hx hb dX9_whatIs_86 (by decide) (fun c_86 => ?_) (fun c_86 => ?_)
                  · skip
                    have c_86 : (tN rn) ≤ i := (nI_leI (a := (tN rn)) (b := i) (by omega) (by omega)).mp c_86
                    refine lv_iload_n hx hb dX9_whatIs_133 rfl (lv_at hl 3 rfl) ?_
                    refine lv_iload hx hb dX9_whatIs_134 (lv_at hl 5 rfl) ?_
                    refine lv_if_eq (tgt := 146) hx hb dX9_whatIs_136 (by decide) (fun c_136 => ?_) (fun c_136 => ?_)
                    · skip
                      have c_136 := bI_e0 c_136
                      refine lv_iconst (v := 0) hx hb dX9_whatIs_146 (by decide) ?_
                      have e8 : i = tN rn := by omega
                      refine r_topi (x' := if whB s R (tN rn) k q j = true then 1 <<< (nI j &&& 31) else 0) (by rw [whB, ← e8, if_neg (by rw [c_136]; decide)]) ?_
                      refine lv_ior hx hb dX9_whatIs_147 ?_
                      refine lv_istore_n (lv' := [(3, .int ((whA s R (tN rn) k q j) ||| (if whB s R (tN rn) k q j = true then 1 <<< (nI j &&& 31) else 0))), (0, .ref (a 0)), (1, .int (nI k)), (2, .int (nI q)), (4, .int (nI j)), (5, .int (bI (alB (fun i => decide (hoursF (upd s (5 + 7 * k + q) (nI j)) i (5 + 7 * k + 3) = R i)) i))), (6, .int (nI i))]) hx hb dX9_whatIs_148 rfl hl (by decide) rfl (fun ls hl => ?_)
                      refine lv_iinc (v := nI (j + 1)) (lv' := [(4, .int (nI (j + 1))), (3, .int ((whA s R (tN rn) k q j) ||| (if whB s R (tN rn) k q j = true then 1 <<< (nI j &&& 31) else 0))), (0, .ref (a 0)), (1, .int (nI k)), (2, .int (nI q)), (5, .int (bI (alB (fun i => decide (hoursF (upd s (5 + 7 * k + q) (nI j)) i (5 + 7 * k + 3) = R i)) i))), (6, .int (nI i))]) hx hb dX9_whatIs_149 hl (k := 4) rfl (nI_1 j) (by decide) rfl (fun ls hl => ?_)
                      refine lv_goto (tgt := 35) hx hb dX9_whatIs_152 (by decide) ?_
                      exact ih_J35 (j + 1) (hoursF (upd s (5 + 7 * k + q) (nI j)) i) (by omega) (by omega)  _ _ _ (hw) (lv_sub hl [2, 3, 4, 1, 0] rfl)
                    · skip
                      have c_136 := bI_n0 c_136
                      refine lv_iconst (v := 1) hx hb dX9_whatIs_139 (by decide) ?_
                      refine lv_iload hx hb dX9_whatIs_140 (lv_at hl 4 rfl) ?_
                      refine lv_ishl hx hb dX9_whatIs_142 ?_
                      refine lv_goto (tgt := 147) hx hb dX9_whatIs_143 (by decide) ?_
                      have e8 : i = tN rn := by omega
                      refine r_topi (x' := if whB s R (tN rn) k q j = true then 1 <<< (nI j &&& 31) else 0) (by rw [whB, ← e8, if_pos c_136]) ?_
                      refine lv_ior hx hb dX9_whatIs_147 ?_
                      refine lv_istore_n (lv' := [(3, .int ((whA s R (tN rn) k q j) ||| (if whB s R (tN rn) k q j = true then 1 <<< (nI j &&& 31) else 0))), (0, .ref (a 0)), (1, .int (nI k)), (2, .int (nI q)), (4, .int (nI j)), (5, .int (bI (alB (fun i => decide (hoursF (upd s (5 + 7 * k + q) (nI j)) i (5 + 7 * k + 3) = R i)) i))), (6, .int (nI i))]) hx hb dX9_whatIs_148 rfl hl (by decide) rfl (fun ls hl => ?_)
                      refine lv_iinc (v := nI (j + 1)) (lv' := [(4, .int (nI (j + 1))), (3, .int ((whA s R (tN rn) k q j) ||| (if whB s R (tN rn) k q j = true then 1 <<< (nI j &&& 31) else 0))), (0, .ref (a 0)), (1, .int (nI k)), (2, .int (nI q)), (5, .int (bI (alB (fun i => decide (hoursF (upd s (5 + 7 * k + q) (nI j)) i (5 + 7 * k + 3) = R i)) i))), (6, .int (nI i))]) hx hb dX9_whatIs_149 hl (k := 4) rfl (nI_1 j) (by decide) rfl (fun ls hl => ?_)
                      refine lv_goto (tgt := 35) hx hb dX9_whatIs_152 (by decide) ?_
                      exact ih_J35 (j + 1) (hoursF (upd s (5 + 7 * k + q) (nI j)) i) (by omega) (by omega)  _ _ _ (hw) (lv_sub hl [2, 3, 4, 1, 0] rfl)
                  · skip
                    have c_86 : i < (tN rn) := Nat.not_le.mp (fun h9 => c_86 ((nI_leI (a := (tN rn)) (b := i) (by omega) (by omega)).mpr h9))
                    refine lv_iload hx hb dX9_whatIs_89 (lv_at hl 5 rfl) ?_
                    refine lv_aload_n hx hb dX9_whatIs_91 rfl (lv_at hl 0 rfl) ?_
                    refine r_get cx hw in_X9 0 (ci := 8) (T := TX9) (N := 13) rfl rfl 1 (by decide) q1170 (fun _ h9 => h9) rfl dX9_whatIs_92 ?_
                    refine lv_iload_n hx hb dX9_whatIs_95 rfl (lv_at hl 1 rfl) ?_
                    refine lv_iconst (v := 3) hx hb dX9_whatIs_96 (by decide) ?_
                    refine r_det (r_S cx hw (kX9_of l hl9 g k 3) (va_cwS 2 hts (lw_S q1254 q1255 q94 q1256) rfl rfl rfl (by decide +kernel) ⟨Nat.le_of_ble_eq_true rfl, Nat.le_of_ble_eq_true rfl⟩) [] rfl rfl rfl hl.1 rfl (Nat.le_of_ble_eq_true rfl) dX9_whatIs_97 ⟨Nat.le_of_ble_eq_true rfl, Nat.le_of_ble_eq_true rfl⟩) cx hw [] rfl rfl rfl (ws' := WM g a s (hoursF (upd s (5 + 7 * k + q) (nI j)) i) im wa L R rf nu hi lm rn pl sd) (rfl) (fun H locs hw => ?_)
                    refine W.eq (g2 := F0 m9 100 ls [.int (nI (5 + 7 * k + 3)), .ref (a 2), .int (bI (alB (fun i => decide (hoursF (upd s (5 + 7 * k + q) (nI j)) i (5 + 7 * k + 3) = R i)) i))]) rfl ?_
                    refine r_iald cx hw 2 rfl (5 + 7 * k + 3) rfl (by omega) (Nat.le_of_ble_eq_true rfl) dX9_whatIs_100 ?_
                    refine lv_aload_n hx hb dX9_whatIs_101 rfl (lv_at hl 0 rfl) ?_
                    refine r_get cx hw in_X9 0 (ci := 8) (T := TX9) (N := 13) rfl rfl 6 (by decide) q1175 (fun _ h9 => h9) rfl dX9_whatIs_102 ?_
                    refine lv_iload hx hb dX9_whatIs_105 (lv_at hl 6 rfl) ?_
                    refine r_iald cx hw 6 rfl i rfl (by omega) (Nat.le_of_ble_eq_true rfl) dX9_whatIs_107 ?_
                    refine lv_icmp_ne (tgt := 115) hx hb dX9_whatIs_108 (by decide) (fun c_108 => ?_) (fun c_108 => ?_)
                    · skip
                      refine lv_iconst (v := 0) hx hb dX9_whatIs_115 (by decide) ?_
                      refine r_topi (x' := bI (decide (hoursF (upd s (5 + 7 * k + q) (nI j)) i (5 + 7 * k + 3) = R i))) (by rw [decide_eq_false c_108]; rfl) ?_
                      refine lv_iand hx hb dX9_whatIs_116 ?_
                      refine r_topi (x' := bI (alB (fun i => decide (hoursF (upd s (5 + 7 * k + q) (nI j)) i (5 + 7 * k + 3) = R i)) (i + 1))) (bI_and _ _) ?_
                      refine lv_istore (lv' := [(5, .int (bI (alB (fun i => decide (hoursF (upd s (5 + 7 * k + q) (nI j)) i (5 + 7 * k + 3) = R i)) (i + 1)))), (0, .ref (a 0)), (1, .int (nI k)), (2, .int (nI q)), (3, .int (whA s R (tN rn) k q j)), (4, .int (nI j)), (6, .int (nI i))]) hx hb dX9_whatIs_117 hl (by decide) rfl (fun ls hl => ?_)
                      refine lv_aload_n hx hb dX9_whatIs_119 rfl (lv_at hl 1 rfl) ?_
                      refine r_get cx hw in_X9 0 (ci := 8) (T := TX9) (N := 13) rfl rfl 1 (by decide) q1170 (fun _ h9 => h9) rfl dX9_whatIs_120 ?_
                      refine lv_iconst (v := 0) hx hb dX9_whatIs_123 (by decide) ?_
                      refine r_det (r_S cx hw (kX9_hour l hl9 g (a 2) (hoursF (upd s (5 + 7 * k + q) (nI j)) i) ((InvM_upd hI (k := 5 + 7 * k + q) (by omega) (fun j => by omega)).hours i) 0) (va_cwS 2 hts (lw_S q1264 q1265 q94 q1266) rfl rfl rfl (by decide +kernel) ⟨Nat.le_of_ble_eq_true rfl, Nat.le_of_ble_eq_true rfl⟩) [2] rfl rfl rfl hl.1 rfl (Nat.le_of_ble_eq_true rfl) dX9_whatIs_124 ⟨Nat.le_of_ble_eq_true rfl, Nat.le_of_ble_eq_true rfl⟩) cx hw [2] rfl rfl rfl (ws' := WM g a s (hourF (hoursF (upd s (5 + 7 * k + q) (nI j)) i) 0) im wa L R rf nu hi lm rn pl sd) (rfl) (fun H locs hw => ?_)
                      refine W.eq (g2 := F0 m9 127 ls []) rfl ?_
                      refine lv_iinc (v := nI (i + 1)) (lv' := [(6, .int (nI (i + 1))), (5, .int (bI (alB (fun i => decide (hoursF (upd s (5 + 7 * k + q) (nI j)) i (5 + 7 * k + 3) = R i)) (i + 1)))), (0, .ref (a 0)), (1, .int (nI k)), (2, .int (nI q)), (3, .int (whA s R (tN rn) k q j)), (4, .int (nI j))]) hx hb dX9_whatIs_127 hl (k := 6) rfl (nI_1 i) (by decide) rfl (fun ls hl => ?_)
                      refine lv_goto (tgt := 80) hx hb dX9_whatIs_130 (by decide) ?_
                      exact ih_J80 (i + 1)  (by omega) (by omega)  _ _ _ (hw) (lv_sub hl [2, 3, 4, 5, 6, 1, 0] rfl)
                    · skip
                      refine lv_iconst (v := 1) hx hb dX9_whatIs_111 (by decide) ?_
                      refine lv_goto (tgt := 116) hx hb dX9_whatIs_112 (by decide) ?_
                      refine r_topi (x' := bI (decide (hoursF (upd s (5 + 7 * k + q) (nI j)) i (5 + 7 * k + 3) = R i))) (by rw [decide_eq_true c_108]; rfl) ?_
                      refine lv_iand hx hb dX9_whatIs_116 ?_
                      refine r_topi (x' := bI (alB (fun i => decide (hoursF (upd s (5 + 7 * k + q) (nI j)) i (5 + 7 * k + 3) = R i)) (i + 1))) (bI_and _ _) ?_
                      refine lv_istore (lv' := [(5, .int (bI (alB (fun i => decide (hoursF (upd s (5 + 7 * k + q) (nI j)) i (5 + 7 * k + 3) = R i)) (i + 1)))), (0, .ref (a 0)), (1, .int (nI k)), (2, .int (nI q)), (3, .int (whA s R (tN rn) k q j)), (4, .int (nI j)), (6, .int (nI i))]) hx hb dX9_whatIs_117 hl (by decide) rfl (fun ls hl => ?_)
                      refine lv_aload_n hx hb dX9_whatIs_119 rfl (lv_at hl 1 rfl) ?_
                      refine r_get cx hw in_X9 0 (ci := 8) (T := TX9) (N := 13) rfl rfl 1 (by decide) q1170 (fun _ h9 => h9) rfl dX9_whatIs_120 ?_
                      refine lv_iconst (v := 0) hx hb dX9_whatIs_123 (by decide) ?_
                      refine r_det (r_S cx hw (kX9_hour l hl9 g (a 2) (hoursF (upd s (5 + 7 * k + q) (nI j)) i) ((InvM_upd hI (k := 5 + 7 * k + q) (by omega) (fun j => by omega)).hours i) 0) (va_cwS 2 hts (lw_S q1264 q1265 q94 q1266) rfl rfl rfl (by decide +kernel) ⟨Nat.le_of_ble_eq_true rfl, Nat.le_of_ble_eq_true rfl⟩) [2] rfl rfl rfl hl.1 rfl (Nat.le_of_ble_eq_true rfl) dX9_whatIs_124 ⟨Nat.le_of_ble_eq_true rfl, Nat.le_of_ble_eq_true rfl⟩) cx hw [2] rfl rfl rfl (ws' := WM g a s (hourF (hoursF (upd s (5 + 7 * k + q) (nI j)) i) 0) im wa L R rf nu hi lm rn pl sd) (rfl) (fun H locs hw => ?_)
                      refine W.eq (g2 := F0 m9 127 ls []) rfl ?_
                      refine lv_iinc (v := nI (i + 1)) (lv' := [(6, .int (nI (i + 1))), (5, .int (bI (alB (fun i => decide (hoursF (upd s (5 + 7 * k + q) (nI j)) i (5 + 7 * k + 3) = R i)) (i + 1)))), (0, .ref (a 0)), (1, .int (nI k)), (2, .int (nI q)), (3, .int (whA s R (tN rn) k q j)), (4, .int (nI j))]) hx hb dX9_whatIs_127 hl (k := 6) rfl (nI_1 i) (by decide) rfl (fun ls hl => ?_)
                      refine lv_goto (tgt := 80) hx hb dX9_whatIs_130 (by decide) ?_
                      exact ih_J80 (i + 1)  (by omega) (by omega)  _ _ _ (hw) (lv_sub hl [2, 3, 4, 5, 6, 1, 0] rfl)
              exact J80 ((tN rn) + 1) 0  (by omega) (by omega)  _ _ _ (hw) (lv_sub hl [2, 3, 4, 5, 6, 1, 0] rfl)
          · skip
            have c_38 : q = 0 := (nI_eq (b := 0) (by omega) (by decide)).mp c_38
            refine lv_bipush (v := 6) hx hb dX9_whatIs_41 (by decide) ?_
            refine lv_goto (tgt := 48) hx hb dX9_whatIs_43 (by decide) ?_
            refine r_topi (x' := nI B) (by rw [hB, if_pos c_38]; rfl) ?_
            refine lv_icmp_ge (tgt := 155) hx hb dX9_whatIs_48 (by decide) (fun c_48 => ?_) (fun c_48 => ?_)
            · skip
              have c_48 : B ≤ j := (nI_leI (a := B) (b := j) (by omega) (by omega)).mp c_48
              refine lv_iload_n hx hb dX9_whatIs_155 rfl (lv_at hl 3 rfl) ?_
              exact r_iret cx hw (⟨_, by rw [hW, ans_0, vWht, ek, eq, ← hB, show j = B by omega], by rw [hW, rfA_0]⟩) (Nat.le_of_ble_eq_true rfl) (Nat.le_of_ble_eq_true rfl) dX9_whatIs_156
            · skip
              have c_48 : j < B := Nat.not_le.mp (fun h9 => c_48 ((nI_leI (a := B) (b := j) (by omega) (by omega)).mpr h9))
              refine lv_iconst (v := 1) hx hb dX9_whatIs_51 (by decide) ?_
              refine lv_istore (lv' := [(5, .int 1), (0, .ref (a 0)), (1, .int (nI k)), (2, .int (nI q)), (3, .int (whA s R (tN rn) k q j)), (4, .int (nI j))]) hx hb dX9_whatIs_52 hl (by decide) rfl (fun ls hl => ?_)
              refine lv_aload_n hx hb dX9_whatIs_54 rfl (lv_at hl 1 rfl) ?_
              refine r_get cx hw in_X9 0 (ci := 8) (T := TX9) (N := 13) rfl rfl 0 (by decide) q1169 (fun _ h9 => h9) rfl dX9_whatIs_55 ?_
              refine lv_aload_n hx hb dX9_whatIs_58 rfl (lv_at hl 1 rfl) ?_
              refine r_get cx hw in_X9 0 (ci := 8) (T := TX9) (N := 13) rfl rfl 1 (by decide) q1170 (fun _ h9 => h9) rfl dX9_whatIs_59 ?_
              refine r_det (r_S cx hw (kX9_copies l hl9 g (a 1) (a 2) s mm) (va_cwS 2 hts (lw_S q1243 q1244 q94 q1245) rfl rfl rfl (by decide +kernel) ⟨Nat.le_of_ble_eq_true rfl, Nat.le_of_ble_eq_true rfl⟩) [1, 2] rfl rfl rfl hl.1 rfl (Nat.le_of_ble_eq_true rfl) dX9_whatIs_62 ⟨Nat.le_of_ble_eq_true rfl, Nat.le_of_ble_eq_true rfl⟩) cx hw [1, 2] rfl rfl rfl (ws' := WM g a s s im wa L R rf nu hi lm rn pl sd) (rfl) (fun H locs hw => ?_)
              refine W.eq (g2 := F0 m9 65 ls []) rfl ?_
              refine lv_aload_n hx hb dX9_whatIs_65 rfl (lv_at hl 1 rfl) ?_
              refine r_get cx hw in_X9 0 (ci := 8) (T := TX9) (N := 13) rfl rfl 1 (by decide) q1170 (fun _ h9 => h9) rfl dX9_whatIs_66 ?_
              refine lv_iload_n hx hb dX9_whatIs_69 rfl (lv_at hl 2 rfl) ?_
              refine lv_iload_n hx hb dX9_whatIs_70 rfl (lv_at hl 3 rfl) ?_
              refine r_det (r_S cx hw (kX9_of l hl9 g k q) (va_cwS 2 hts (lw_S q1254 q1255 q94 q1256) rfl rfl rfl (by decide +kernel) ⟨Nat.le_of_ble_eq_true rfl, Nat.le_of_ble_eq_true rfl⟩) [] rfl rfl rfl hl.1 rfl (Nat.le_of_ble_eq_true rfl) dX9_whatIs_71 ⟨Nat.le_of_ble_eq_true rfl, Nat.le_of_ble_eq_true rfl⟩) cx hw [] rfl rfl rfl (ws' := WM g a s s im wa L R rf nu hi lm rn pl sd) (rfl) (fun H locs hw => ?_)
              refine W.eq (g2 := F0 m9 74 ls [.int (nI (5 + 7 * k + q)), .ref (a 2)]) rfl ?_
              refine lv_iload hx hb dX9_whatIs_74 (lv_at hl 5 rfl) ?_
              refine r_iast cx hw 2 rfl (5 + 7 * k + q) rfl (by omega) (Nat.le_of_ble_eq_true rfl) dX9_whatIs_76 (fun H locs hw => ?_)
              have hw : WS g A9 s9.heap (WM g a s (upd s (5 + 7 * k + q) (nI j)) im wa L R rf nu hi lm rn pl sd) H locs := hw
              refine lv_iconst (v := 0) hx hb dX9_whatIs_77 (by decide) ?_
              refine lv_istore (lv' := [(6, .int 0), (5, .int 1), (0, .ref (a 0)), (1, .int (nI k)), (2, .int (nI q)), (3, .int (whA s R (tN rn) k q j)), (4, .int (nI j))]) hx hb dX9_whatIs_78 hl (by decide) rfl (fun ls hl => ?_)
              have J80 : ∀ (n9 i : Nat) , i ≤ (tN rn) → (tN rn) < n9 + i → ∀ (H : Heap) (locs : List Loc) (ls : Array Slot), WS g A9 s9.heap (WM g a s (hoursF (upd s (5 + 7 * k + q) (nI j)) i) im wa L R rf nu hi lm rn pl sd) H locs → lv_has ls 7 [(0, .ref (a 0)), (1, .int (nI k)), (2, .int (nI q)), (3, .int (whA s R (tN rn) k q j)), (4, .int (nI j)), (5, .int (bI (alB (fun i => decide (hoursF (upd s (5 + 7 * k + q) (nI j)) i (5 + 7 * k + 3) = R i)) i))), (6, .int (nI i))] → W p9 l e9 (rmC 4 89 0 0) s9 m9 args9 below9 meth9 c9 H locs 0 0 (vx_MQ below9 (PostA g A9 (rtE (α := Nat → Int32) (some (.int (ans (wWht s (nI k) (nI q)) (vWht s R rn (nI k) (nI q))))) (fun x9 => WM g a s x9 im wa L R (rfA (wWht s (nI k) (nI q)) rf) nu hi lm rn pl sd))) (PxA g A9 (pxR (noX))) args9 s9 0 0 A9) (F0 m9 80 ls []) := by
                intro n9
                induction n9 with
                | zero => intro i  hj hk9; exact absurd hk9 (by omega)
                | succ n9 ih_J80 =>
                  intro i  hj hk9  H locs ls hw hl
                  refine lv_iload hx hb dX9_whatIs_80 (lv_at hl 6 rfl) ?_
                  refine lv_aload_n hx hb dX9_whatIs_82 rfl (lv_at hl 0 rfl) ?_
                  refine r_get cx hw in_X9 0 (ci := 8) (T := TX9) (N := 13) rfl rfl 9 (by decide) q1178 (fun _ h9 => h9) rfl dX9_whatIs_83 ?_
                  refine r_topi (x' := nI (tN rn)) (er9) ?_
                  refine lv_icmp_ge (tgt := 133) hx hb dX9_whatIs_86 (by decide) (fun c_86 => ?_) (fun c_86 => ?_)
                  · skip
                    have c_86 : (tN rn) ≤ i := (nI_leI (a := (tN rn)) (b := i) (by omega) (by omega)).mp c_86
                    refine lv_iload_n hx hb dX9_whatIs_133 rfl (lv_at hl 3 rfl) ?_
                    refine lv_iload hx hb dX9_whatIs_134 (lv_at hl 5 rfl) ?_
                    refine lv_if_eq (tgt := 146) hx hb dX9_whatIs_136 (by decide) (fun c_136 => ?_) (fun c_136 => ?_)
                    · skip
                      have c_136 := bI_e0 c_136
                      refine lv_iconst (v := 0) hx hb dX9_whatIs_146 (by decide) ?_
                      have e8 : i = tN rn := by omega
                      refine r_topi (x' := if whB s R (tN rn) k q j = true then 1 <<< (nI j &&& 31) else 0) (by rw [whB, ← e8, if_neg (by rw [c_136]; decide)]) ?_
                      refine lv_ior hx hb dX9_whatIs_147 ?_
                      refine lv_istore_n (lv' := [(3, .int ((whA s R (tN rn) k q j) ||| (if whB s R (tN rn) k q j = true then 1 <<< (nI j &&& 31) else 0))), (0, .ref (a 0)), (1, .int (nI k)), (2, .int (nI q)), (4, .int (nI j)), (5, .int (bI (alB (fun i => decide (hoursF (upd s (5 + 7 * k + q) (nI j)) i (5 + 7 * k + 3) = R i)) i))), (6, .int (nI i))]) hx hb dX9_whatIs_148 rfl hl (by decide) rfl (fun ls hl => ?_)
                      refine lv_iinc (v := nI (j + 1)) (lv' := [(4, .int (nI (j + 1))), (3, .int ((whA s R (tN rn) k q j) ||| (if whB s R (tN rn) k q j = true then 1 <<< (nI j &&& 31) else 0))), (0, .ref (a 0)), (1, .int (nI k)), (2, .int (nI q)), (5, .int (bI (alB (fun i => decide (hoursF (upd s (5 + 7 * k + q) (nI j)) i (5 + 7 * k + 3) = R i)) i))), (6, .int (nI i))]) hx hb dX9_whatIs_149 hl (k := 4) rfl (nI_1 j) (by decide) rfl (fun ls hl => ?_)
                      refine lv_goto (tgt := 35) hx hb dX9_whatIs_152 (by decide) ?_
                      exact ih_J35 (j + 1) (hoursF (upd s (5 + 7 * k + q) (nI j)) i) (by omega) (by omega)  _ _ _ (hw) (lv_sub hl [2, 3, 4, 1, 0] rfl)
                    · skip
                      have c_136 := bI_n0 c_136
                      refine lv_iconst (v := 1) hx hb dX9_whatIs_139 (by decide) ?_
                      refine lv_iload hx hb dX9_whatIs_140 (lv_at hl 4 rfl) ?_
                      refine lv_ishl hx hb dX9_whatIs_142 ?_
                      refine lv_goto (tgt := 147) hx hb dX9_whatIs_143 (by decide) ?_
                      have e8 : i = tN rn := by omega
                      refine r_topi (x' := if whB s R (tN rn) k q j = true then 1 <<< (nI j &&& 31) else 0) (by rw [whB, ← e8, if_pos c_136]) ?_
                      refine lv_ior hx hb dX9_whatIs_147 ?_
                      refine lv_istore_n (lv' := [(3, .int ((whA s R (tN rn) k q j) ||| (if whB s R (tN rn) k q j = true then 1 <<< (nI j &&& 31) else 0))), (0, .ref (a 0)), (1, .int (nI k)), (2, .int (nI q)), (4, .int (nI j)), (5, .int (bI (alB (fun i => decide (hoursF (upd s (5 + 7 * k + q) (nI j)) i (5 + 7 * k + 3) = R i)) i))), (6, .int (nI i))]) hx hb dX9_whatIs_148 rfl hl (by decide) rfl (fun ls hl => ?_)
                      refine lv_iinc (v := nI (j + 1)) (lv' := [(4, .int (nI (j + 1))), (3, .int ((whA s R (tN rn) k q j) ||| (if whB s R (tN rn) k q j = true then 1 <<< (nI j &&& 31) else 0))), (0, .ref (a 0)), (1, .int (nI k)), (2, .int (nI q)), (5, .int (bI (alB (fun i => decide (hoursF (upd s (5 + 7 * k + q) (nI j)) i (5 + 7 * k + 3) = R i)) i))), (6, .int (nI i))]) hx hb dX9_whatIs_149 hl (k := 4) rfl (nI_1 j) (by decide) rfl (fun ls hl => ?_)
                      refine lv_goto (tgt := 35) hx hb dX9_whatIs_152 (by decide) ?_
                      exact ih_J35 (j + 1) (hoursF (upd s (5 + 7 * k + q) (nI j)) i) (by omega) (by omega)  _ _ _ (hw) (lv_sub hl [2, 3, 4, 1, 0] rfl)
                  · skip
                    have c_86 : i < (tN rn) := Nat.not_le.mp (fun h9 => c_86 ((nI_leI (a := (tN rn)) (b := i) (by omega) (by omega)).mpr h9))
                    refine lv_iload hx hb dX9_whatIs_89 (lv_at hl 5 rfl) ?_
                    refine lv_aload_n hx hb dX9_whatIs_91 rfl (lv_at hl 0 rfl) ?_
                    refine r_get cx hw in_X9 0 (ci := 8) (T := TX9) (N := 13) rfl rfl 1 (by decide) q1170 (fun _ h9 => h9) rfl dX9_whatIs_92 ?_
                    refine lv_iload_n hx hb dX9_whatIs_95 rfl (lv_at hl 1 rfl) ?_
                    refine lv_iconst (v := 3) hx hb dX9_whatIs_96 (by decide) ?_
                    refine r_det (r_S cx hw (kX9_of l hl9 g k 3) (va_cwS 2 hts (lw_S q1254 q1255 q94 q1256) rfl rfl rfl (by decide +kernel) ⟨Nat.le_of_ble_eq_true rfl, Nat.le_of_ble_eq_true rfl⟩) [] rfl rfl rfl hl.1 rfl (Nat.le_of_ble_eq_true rfl) dX9_whatIs_97 ⟨Nat.le_of_ble_eq_true rfl, Nat.le_of_ble_eq_true rfl⟩) cx hw [] rfl rfl rfl (ws' := WM g a s (hoursF (upd s (5 + 7 * k + q) (nI j)) i) im wa L R rf nu hi lm rn pl sd) (rfl) (fun H locs hw => ?_)
                    refine W.eq (g2 := F0 m9 100 ls [.int (nI (5 + 7 * k + 3)), .ref (a 2), .int (bI (alB (fun i => decide (hoursF (upd s (5 + 7 * k + q) (nI j)) i (5 + 7 * k + 3) = R i)) i))]) rfl ?_
                    refine r_iald cx hw 2 rfl (5 + 7 * k + 3) rfl (by omega) (Nat.le_of_ble_eq_true rfl) dX9_whatIs_100 ?_
                    refine lv_aload_n hx hb dX9_whatIs_101 rfl (lv_at hl 0 rfl) ?_
                    refine r_get cx hw in_X9 0 (ci := 8) (T := TX9) (N := 13) rfl rfl 6 (by decide) q1175 (fun _ h9 => h9) rfl dX9_whatIs_102 ?_
                    refine lv_iload hx hb dX9_whatIs_105 (lv_at hl 6 rfl) ?_
                    refine r_iald cx hw 6 rfl i rfl (by omega) (Nat.le_of_ble_eq_true rfl) dX9_whatIs_107 ?_
                    refine lv_icmp_ne (tgt := 115) hx hb dX9_whatIs_108 (by decide) (fun c_108 => ?_) (fun c_108 => ?_)
                    · skip
                      refine lv_iconst (v := 0) hx hb dX9_whatIs_115 (by decide) ?_
                      refine r_topi (x' := bI (decide (hoursF (upd s (5 + 7 * k + q) (nI j)) i (5 + 7 * k + 3) = R i))) (by rw [decide_eq_false c_108]; rfl) ?_
                      refine lv_iand hx hb dX9_whatIs_116 ?_
                      refine r_topi (x' := bI (alB (fun i => decide (hoursF (upd s (5 + 7 * k + q) (nI j)) i (5 + 7 * k + 3) = R i)) (i + 1))) (bI_and _ _) ?_
                      refine lv_istore (lv' := [(5, .int (bI (alB (fun i => decide (hoursF (upd s (5 + 7 * k + q) (nI j)) i (5 + 7 * k + 3) = R i)) (i + 1)))), (0, .ref (a 0)), (1, .int (nI k)), (2, .int (nI q)), (3, .int (whA s R (tN rn) k q j)), (4, .int (nI j)), (6, .int (nI i))]) hx hb dX9_whatIs_117 hl (by decide) rfl (fun ls hl => ?_)
                      refine lv_aload_n hx hb dX9_whatIs_119 rfl (lv_at hl 1 rfl) ?_
                      refine r_get cx hw in_X9 0 (ci := 8) (T := TX9) (N := 13) rfl rfl 1 (by decide) q1170 (fun _ h9 => h9) rfl dX9_whatIs_120 ?_
                      refine lv_iconst (v := 0) hx hb dX9_whatIs_123 (by decide) ?_
                      refine r_det (r_S cx hw (kX9_hour l hl9 g (a 2) (hoursF (upd s (5 + 7 * k + q) (nI j)) i) ((InvM_upd hI (k := 5 + 7 * k + q) (by omega) (fun j => by omega)).hours i) 0) (va_cwS 2 hts (lw_S q1264 q1265 q94 q1266) rfl rfl rfl (by decide +kernel) ⟨Nat.le_of_ble_eq_true rfl, Nat.le_of_ble_eq_true rfl⟩) [2] rfl rfl rfl hl.1 rfl (Nat.le_of_ble_eq_true rfl) dX9_whatIs_124 ⟨Nat.le_of_ble_eq_true rfl, Nat.le_of_ble_eq_true rfl⟩) cx hw [2] rfl rfl rfl (ws' := WM g a s (hourF (hoursF (upd s (5 + 7 * k + q) (nI j)) i) 0) im wa L R rf nu hi lm rn pl sd) (rfl) (fun H locs hw => ?_)
                      refine W.eq (g2 := F0 m9 127 ls []) rfl ?_
                      refine lv_iinc (v := nI (i + 1)) (lv' := [(6, .int (nI (i + 1))), (5, .int (bI (alB (fun i => decide (hoursF (upd s (5 + 7 * k + q) (nI j)) i (5 + 7 * k + 3) = R i)) (i + 1)))), (0, .ref (a 0)), (1, .int (nI k)), (2, .int (nI q)), (3, .int (whA s R (tN rn) k q j)), (4, .int (nI j))]) hx hb dX9_whatIs_127 hl (k := 6) rfl (nI_1 i) (by decide) rfl (fun ls hl => ?_)
                      refine lv_goto (tgt := 80) hx hb dX9_whatIs_130 (by decide) ?_
                      exact ih_J80 (i + 1)  (by omega) (by omega)  _ _ _ (hw) (lv_sub hl [2, 3, 4, 5, 6, 1, 0] rfl)
                    · skip
                      refine lv_iconst (v := 1) hx hb dX9_whatIs_111 (by decide) ?_
                      refine lv_goto (tgt := 116) hx hb dX9_whatIs_112 (by decide) ?_
                      refine r_topi (x' := bI (decide (hoursF (upd s (5 + 7 * k + q) (nI j)) i (5 + 7 * k + 3) = R i))) (by rw [decide_eq_true c_108]; rfl) ?_
                      refine lv_iand hx hb dX9_whatIs_116 ?_
                      refine r_topi (x' := bI (alB (fun i => decide (hoursF (upd s (5 + 7 * k + q) (nI j)) i (5 + 7 * k + 3) = R i)) (i + 1))) (bI_and _ _) ?_
                      refine lv_istore (lv' := [(5, .int (bI (alB (fun i => decide (hoursF (upd s (5 + 7 * k + q) (nI j)) i (5 + 7 * k + 3) = R i)) (i + 1)))), (0, .ref (a 0)), (1, .int (nI k)), (2, .int (nI q)), (3, .int (whA s R (tN rn) k q j)), (4, .int (nI j)), (6, .int (nI i))]) hx hb dX9_whatIs_117 hl (by decide) rfl (fun ls hl => ?_)
                      refine lv_aload_n hx hb dX9_whatIs_119 rfl (lv_at hl 1 rfl) ?_
                      refine r_get cx hw in_X9 0 (ci := 8) (T := TX9) (N := 13) rfl rfl 1 (by decide) q1170 (fun _ h9 => h9) rfl dX9_whatIs_120 ?_
                      refine lv_iconst (v := 0) hx hb dX9_whatIs_123 (by decide) ?_
                      refine r_det (r_S cx hw (kX9_hour l hl9 g (a 2) (hoursF (upd s (5 + 7 * k + q) (nI j)) i) ((InvM_upd hI (k := 5 + 7 * k + q) (by omega) (fun j => by omega)).hours i) 0) (va_cwS 2 hts (lw_S q1264 q1265 q94 q1266) rfl rfl rfl (by decide +kernel) ⟨Nat.le_of_ble_eq_true rfl, Nat.le_of_ble_eq_true rfl⟩) [2] rfl rfl rfl hl.1 rfl (Nat.le_of_ble_eq_true rfl) dX9_whatIs_124 ⟨Nat.le_of_ble_eq_true rfl, Nat.le_of_ble_eq_true rfl⟩) cx hw [2] rfl rfl rfl (ws' := WM g a s (hourF (hoursF (upd s (5 + 7 * k + q) (nI j)) i) 0) im wa L R rf nu hi lm rn pl sd) (rfl) (fun H locs hw => ?_)
                      refine W.eq (g2 := F0 m9 127 ls []) rfl ?_
                      refine lv_iinc (v := nI (i + 1)) (lv' := [(6, .int (nI (i + 1))), (5, .int (bI (alB (fun i => decide (hoursF (upd s (5 + 7 * k + q) (nI j)) i (5 + 7 * k + 3) = R i)) (i + 1)))), (0, .ref (a 0)), (1, .int (nI k)), (2, .int (nI q)), (3, .int (whA s R (tN rn) k q j)), (4, .int (nI j))]) hx hb dX9_whatIs_127 hl (k := 6) rfl (nI_1 i) (by decide) rfl (fun ls hl => ?_)
                      refine lv_goto (tgt := 80) hx hb dX9_whatIs_130 (by decide) ?_
                      exact ih_J80 (i + 1)  (by omega) (by omega)  _ _ _ (hw) (lv_sub hl [2, 3, 4, 5, 6, 1, 0] rfl)
              exact J80 ((tN rn) + 1) 0  (by omega) (by omega)  _ _ _ (hw) (lv_sub hl [2, 3, 4, 5, 6, 1, 0] rfl)
      refine lv_aload_n hx hb dX9_whatIs_0 rfl (lv_at hl 0 rfl) ?_
      refine lv_iload_n hx hb dX9_whatIs_1 rfl (lv_at hl 1 rfl) ?_
      refine r_det (r_V cx hw (kX9_isPerson l hl9 g a s m im wa L R rf nu hi lm rn pl sd (nI k)) (cwV 1 hts (lw_V q1257 q1259 qs72 q94 q1260) rfl rfl rfl (by decide +kernel) ⟨Nat.le_of_ble_eq_true rfl, Nat.le_of_ble_eq_true rfl⟩) (r_recv hK hw (k := 0) (ci := 8) rfl rfl) [0, 1, 2, 3, 4, 5, 6, 7, 8] rfl rfl rfl hl.1 rfl (Nat.le_of_ble_eq_true rfl) dX9_whatIs_2 ⟨Nat.le_of_ble_eq_true rfl, Nat.le_of_ble_eq_true rfl⟩) cx hw [0, 1, 2, 3, 4, 5, 6, 7, 8] rfl rfl rfl (ws' := WM g a s m im wa L R rf nu hi lm rn pl sd) (rfl) (fun H locs hw => ?_)
      refine W.eq (g2 := F0 m9 5 ls [.int (bI (psB s (nI k)))]) rfl ?_
      refine lv_if_ne (tgt := 14) hx hb dX9_whatIs_5 (by decide) (fun c_5 => ?_) (fun c_5 => absurd c_5 (by rw [hps_p]; decide))
      refine lv_iload_n hx hb dX9_whatIs_14 rfl (lv_at hl 2 rfl) ?_
      refine lv_iconst (v := 0) hx hb dX9_whatIs_15 (by decide) ?_
      refine lv_iconst (v := 1) hx hb dX9_whatIs_16 (by decide) ?_
      refine r_det (r_S cx hw (kX9_isIn l hl9 g (nI q) 0 1) (va_cwS 3 hts (lw_S q1240 q1241 q94 q1242) rfl rfl rfl (by decide +kernel) ⟨Nat.le_of_ble_eq_true rfl, Nat.le_of_ble_eq_true rfl⟩) [] rfl rfl rfl hl.1 rfl (Nat.le_of_ble_eq_true rfl) dX9_whatIs_17 ⟨Nat.le_of_ble_eq_true rfl, Nat.le_of_ble_eq_true rfl⟩) cx hw [] rfl rfl rfl (ws' := WM g a s m im wa L R rf nu hi lm rn pl sd) (rfl) (fun H locs hw => ?_)
      refine W.eq (g2 := F0 m9 20 ls [.int (bI (isInB (nI q) 0 1))]) rfl ?_
      refine lv_if_ne (tgt := 30) hx hb dX9_whatIs_20 (by decide) (fun c_20 => ?_) (fun c_20 => absurd c_20 (by rw [hin_w9]; decide))
      refine lv_iconst (v := 0) hx hb dX9_whatIs_30 (by decide) ?_
      refine lv_istore_n (lv' := [(3, .int 0), (0, .ref (a 0)), (1, .int (nI k)), (2, .int (nI q))]) hx hb dX9_whatIs_31 rfl hl (by decide) rfl (fun ls hl => ?_)
      refine lv_iconst (v := 0) hx hb dX9_whatIs_32 (by decide) ?_
      refine lv_istore (lv' := [(4, .int 0), (3, .int 0), (0, .ref (a 0)), (1, .int (nI k)), (2, .int (nI q))]) hx hb dX9_whatIs_33 hl (by decide) rfl (fun ls hl => ?_)
      exact J35 (B + 1) 0 m (by omega) (by omega)  _ _ _ (hw) (lv_sub hl [2, 3, 4, 1, 0] rfl)
    · skip
      have hin_w9 : isInB w9 0 1 = false := by simpa using hin_w9
      have hW : wWht s (nI k) w9 = -2 := by simp [wWht, hps_p, wBit, hin_w9]
      have hne : ¬ wWht s (nI k) w9 = 0 := by rw [hW]; decide
      refine MC.of (by decide) (Nat.le_of_ble_eq_true rfl) ?_
      intro p9 e9 s9 m9 args9 below9 meth9 c9 A9 ls cx htab hw hl
      have hx := cx.1
      have hb := cx.2.1
      have hts := cx.2.2.2.2.1
      have hK := cx.2.2.2.2.2.2.2.1
      have hl : lv_has ls 7 [(0, .ref (a 0)), (1, .int (nI k)), (2, .int w9)] := hl
      refine lv_aload_n hx hb dX9_whatIs_0 rfl (lv_at hl 0 rfl) ?_
      refine lv_iload_n hx hb dX9_whatIs_1 rfl (lv_at hl 1 rfl) ?_
      refine r_det (r_V cx hw (kX9_isPerson l hl9 g a s m im wa L R rf nu hi lm rn pl sd (nI k)) (cwV 1 hts (lw_V q1257 q1259 qs72 q94 q1260) rfl rfl rfl (by decide +kernel) ⟨Nat.le_of_ble_eq_true rfl, Nat.le_of_ble_eq_true rfl⟩) (r_recv hK hw (k := 0) (ci := 8) rfl rfl) [0, 1, 2, 3, 4, 5, 6, 7, 8] rfl rfl rfl hl.1 rfl (Nat.le_of_ble_eq_true rfl) dX9_whatIs_2 ⟨Nat.le_of_ble_eq_true rfl, Nat.le_of_ble_eq_true rfl⟩) cx hw [0, 1, 2, 3, 4, 5, 6, 7, 8] rfl rfl rfl (ws' := WM g a s m im wa L R rf nu hi lm rn pl sd) (rfl) (fun H locs hw => ?_)
      refine W.eq (g2 := F0 m9 5 ls [.int (bI (psB s (nI k)))]) rfl ?_
      refine lv_if_ne (tgt := 14) hx hb dX9_whatIs_5 (by decide) (fun c_5 => ?_) (fun c_5 => absurd c_5 (by rw [hps_p]; decide))
      refine lv_iload_n hx hb dX9_whatIs_14 rfl (lv_at hl 2 rfl) ?_
      refine lv_iconst (v := 0) hx hb dX9_whatIs_15 (by decide) ?_
      refine lv_iconst (v := 1) hx hb dX9_whatIs_16 (by decide) ?_
      refine r_det (r_S cx hw (kX9_isIn l hl9 g w9 0 1) (va_cwS 3 hts (lw_S q1240 q1241 q94 q1242) rfl rfl rfl (by decide +kernel) ⟨Nat.le_of_ble_eq_true rfl, Nat.le_of_ble_eq_true rfl⟩) [] rfl rfl rfl hl.1 rfl (Nat.le_of_ble_eq_true rfl) dX9_whatIs_17 ⟨Nat.le_of_ble_eq_true rfl, Nat.le_of_ble_eq_true rfl⟩) cx hw [] rfl rfl rfl (ws' := WM g a s m im wa L R rf nu hi lm rn pl sd) (rfl) (fun H locs hw => ?_)
      refine W.eq (g2 := F0 m9 20 ls [.int (bI (isInB w9 0 1))]) rfl ?_
      refine lv_if_ne (tgt := 30) hx hb dX9_whatIs_20 (by decide) (fun c_20 => absurd c_20 (by rw [hin_w9]; decide)) (fun c_20 => ?_)
      refine lv_aload_n hx hb dX9_whatIs_23 rfl (lv_at hl 0 rfl) ?_
      refine lv_bipush (v := (-2)) hx hb dX9_whatIs_24 (by decide) ?_
      refine r_det (r_V cx hw (kX9_no l hl9 g a s m im wa L R rf nu hi lm rn pl sd (-2) (by unfold okC; decide)) (cwV 1 hts (lw_V q1213 q1215 qs65 q94 q1216) rfl rfl rfl (by decide +kernel) ⟨Nat.le_of_ble_eq_true rfl, Nat.le_of_ble_eq_true rfl⟩) (r_recv hK hw (k := 0) (ci := 8) rfl rfl) [0, 1, 2, 3, 4, 5, 6, 7, 8] rfl rfl rfl hl.1 rfl (Nat.le_of_ble_eq_true rfl) dX9_whatIs_26 ⟨Nat.le_of_ble_eq_true rfl, Nat.le_of_ble_eq_true rfl⟩) cx hw [0, 1, 2, 3, 4, 5, 6, 7, 8] rfl rfl rfl (ws' := WM g a s m im wa L R (rfU rf (-2)) nu hi lm rn pl sd) (rfl) (fun H locs hw => ?_)
      refine W.eq (g2 := F0 m9 29 ls [.int (-2)]) rfl ?_
      exact r_iret cx hw (⟨_, by rw [ans_n hne, hW], by rw [rfA_n hne, hW]⟩) (Nat.le_of_ble_eq_true rfl) (Nat.le_of_ble_eq_true rfl) dX9_whatIs_29
  · skip
    have hps_p : psB s p = false := by simpa using hps_p
    have hW : wWht s p w9 = -1 := by simp [wWht, hps_p]
    have hne : ¬ wWht s p w9 = 0 := by rw [hW]; decide
    refine MC.of (by decide) (Nat.le_of_ble_eq_true rfl) ?_
    intro p9 e9 s9 m9 args9 below9 meth9 c9 A9 ls cx htab hw hl
    have hx := cx.1
    have hb := cx.2.1
    have hts := cx.2.2.2.2.1
    have hK := cx.2.2.2.2.2.2.2.1
    have hl : lv_has ls 7 [(0, .ref (a 0)), (1, .int p), (2, .int w9)] := hl
    refine lv_aload_n hx hb dX9_whatIs_0 rfl (lv_at hl 0 rfl) ?_
    refine lv_iload_n hx hb dX9_whatIs_1 rfl (lv_at hl 1 rfl) ?_
    refine r_det (r_V cx hw (kX9_isPerson l hl9 g a s m im wa L R rf nu hi lm rn pl sd p) (cwV 1 hts (lw_V q1257 q1259 qs72 q94 q1260) rfl rfl rfl (by decide +kernel) ⟨Nat.le_of_ble_eq_true rfl, Nat.le_of_ble_eq_true rfl⟩) (r_recv hK hw (k := 0) (ci := 8) rfl rfl) [0, 1, 2, 3, 4, 5, 6, 7, 8] rfl rfl rfl hl.1 rfl (Nat.le_of_ble_eq_true rfl) dX9_whatIs_2 ⟨Nat.le_of_ble_eq_true rfl, Nat.le_of_ble_eq_true rfl⟩) cx hw [0, 1, 2, 3, 4, 5, 6, 7, 8] rfl rfl rfl (ws' := WM g a s m im wa L R rf nu hi lm rn pl sd) (rfl) (fun H locs hw => ?_)
    refine W.eq (g2 := F0 m9 5 ls [.int (bI (psB s p))]) rfl ?_
    refine lv_if_ne (tgt := 14) hx hb dX9_whatIs_5 (by decide) (fun c_5 => absurd c_5 (by rw [hps_p]; decide)) (fun c_5 => ?_)
    refine lv_aload_n hx hb dX9_whatIs_8 rfl (lv_at hl 0 rfl) ?_
    refine lv_iconst (v := (-1)) hx hb dX9_whatIs_9 (by decide) ?_
    refine r_det (r_V cx hw (kX9_no l hl9 g a s m im wa L R rf nu hi lm rn pl sd (-1) (by unfold okC; decide)) (cwV 1 hts (lw_V q1213 q1215 qs65 q94 q1216) rfl rfl rfl (by decide +kernel) ⟨Nat.le_of_ble_eq_true rfl, Nat.le_of_ble_eq_true rfl⟩) (r_recv hK hw (k := 0) (ci := 8) rfl rfl) [0, 1, 2, 3, 4, 5, 6, 7, 8] rfl rfl rfl hl.1 rfl (Nat.le_of_ble_eq_true rfl) dX9_whatIs_10 ⟨Nat.le_of_ble_eq_true rfl, Nat.le_of_ble_eq_true rfl⟩) cx hw [0, 1, 2, 3, 4, 5, 6, 7, 8] rfl rfl rfl (ws' := WM g a s m im wa L R (rfU rf (-1)) nu hi lm rn pl sd) (rfl) (fun H locs hw => ?_)
    refine W.eq (g2 := F0 m9 13 ls [.int (-1)]) rfl ?_
    exact r_iret cx hw (⟨_, by rw [ans_n hne, hW], by rw [rfA_n hne, hW]⟩) (Nat.le_of_ble_eq_true rfl) (Nat.le_of_ble_eq_true rfl) dX9_whatIs_13
