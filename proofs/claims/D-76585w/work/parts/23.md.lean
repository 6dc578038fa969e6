/-! the reference: its methods, 2 -/
set_option maxRecDepth 100000
set_option maxHeartbeats 4000000 in
set_option maxRecDepth 100000 in
theorem kX9_whenNothing (l : Launch) (hl9 : l.stackTraces = false) (g : GG) (a : Nat → Nat) (s m im wa L R rf nu : Nat → Int32) (hi lm rn pl sd : Int32) (hI : InvM s) (k : Nat) (hk : k < 47) : MC l yX9_whenNothing cX9_whenNothing 3 (some .int) 4 89 0 0 g [.ref (a 0), .int (nI k)] (WM g a s m im wa L R rf nu hi lm rn pl sd) (rtE (α := Nat → Int32) (some (.int (wnF s k))) (fun x9 => WM g a s x9 im wa L R rf nu hi lm rn pl sd)) (noX) := by
  refine MC.of (by decide) (Nat.le_of_ble_eq_true rfl) ?_
  intro p9 e9 s9 m9 args9 below9 meth9 c9 A9 ls cx htab hw hl
  have hx := cx.1
  have hb := cx.2.1
  have hts := cx.2.2.2.2.1
  have hK := cx.2.2.2.2.2.2.2.1
  have hl : lv_has ls 3 [(0, .ref (a 0)), (1, .int (nI k))] := hl
  have J : ∀ (n9 j : Nat) , j ≤ 61 → 61 < n9 + j → wnF s k = ffV (fun n => decide (hoursF s n k = 0)) (61 - j) j → ∀ (H : Heap) (locs : List Loc) (ls : Array Slot), WS g A9 s9.heap (WM g a s (hoursF s j) im wa L R rf nu hi lm rn pl sd) H locs → lv_has ls 3 [(0, .ref (a 0)), (1, .int (nI k)), (2, .int (nI j))] → W p9 l e9 (rmC 4 89 0 0) s9 m9 args9 below9 meth9 c9 H locs 0 0 (vx_MQ below9 (PostA g A9 (rtE (α := Nat → Int32) (some (.int (wnF s k))) (fun x9 => WM g a s x9 im wa L R rf nu hi lm rn pl sd))) (PxA g A9 (pxR (noX))) args9 s9 0 0 A9) (F0 m9 13 ls []) := by
    intro n9
    induction n9 with
    | zero => intro j  hj hk9; exact absurd hk9 (by omega)
    | succ n9 ih_J =>
      intro j  hj hk9 hv H locs ls hw hl
      refine lv_iload_n hx hb dX9_whenNothing_13 rfl (lv_at hl 2 rfl) ?_
      refine lv_bipush (v := 60) hx hb dX9_whenNothing_14 (by decide) ?_
      refine lv_icmp_gt (tgt := 44) hx hb dX9_whenNothing_16 (by decide) (fun c_16 => ?_) (fun c_16 => ?_)
      · skip
        have c_16 : 60 < j := (nI_ltI (a := 60) (b := j) (by omega) (by omega)).mp c_16
        refine lv_bipush (v := (-9)) hx hb dX9_whenNothing_44 (by decide) ?_
        exact r_iret cx hw (⟨_, by rw [hv, ffV_e (by omega)], rfl⟩) (Nat.le_of_ble_eq_true rfl) (Nat.le_of_ble_eq_true rfl) dX9_whenNothing_46
      · skip
        have c_16 : j ≤ 60 := Nat.not_lt.mp (fun h9 => c_16 ((nI_ltI (a := 60) (b := j) (by omega) (by omega)).mpr h9))
        refine lv_aload_n hx hb dX9_whenNothing_19 rfl (lv_at hl 0 rfl) ?_
        refine r_get cx hw in_X9 0 (ci := 8) (T := TX9) (N := 13) rfl rfl 1 (by decide) q1170 (fun _ h9 => h9) rfl dX9_whenNothing_20 ?_
        refine lv_iload_n hx hb dX9_whenNothing_23 rfl (lv_at hl 1 rfl) ?_
        refine r_iald cx hw 2 rfl k rfl (by omega) (Nat.le_of_ble_eq_true rfl) dX9_whenNothing_24 ?_
        refine lv_if_ne (tgt := 30) hx hb dX9_whenNothing_25 (by decide) (fun c_25 => ?_) (fun c_25 => ?_)
        · skip
          refine lv_aload_n hx hb dX9_whenNothing_30 rfl (lv_at hl 0 rfl) ?_
          refine r_get cx hw in_X9 0 (ci := 8) (T := TX9) (N := 13) rfl rfl 1 (by decide) q1170 (fun _ h9 => h9) rfl dX9_whenNothing_31 ?_
          refine lv_iconst (v := 0) hx hb dX9_whenNothing_34 (by decide) ?_
          refine r_det (r_S cx hw (kX9_hour l hl9 g (a 2) (hoursF s j) (hI.hours j) 0) (va_cwS 2 hts (lw_S q1264 q1265 q94 q1266) rfl rfl rfl (by decide +kernel) ⟨Nat.le_of_ble_eq_true rfl, Nat.le_of_ble_eq_true rfl⟩) [2] rfl rfl rfl hl.1 rfl (Nat.le_of_ble_eq_true rfl) dX9_whenNothing_35 ⟨Nat.le_of_ble_eq_true rfl, Nat.le_of_ble_eq_true rfl⟩) cx hw [2] rfl rfl rfl (ws' := WM g a s (hourF (hoursF s j) 0) im wa L R rf nu hi lm rn pl sd) (rfl) (fun H locs hw => ?_)
          refine W.eq (g2 := F0 m9 38 ls []) rfl ?_
          refine lv_iinc (v := nI (j + 1)) (lv' := [(2, .int (nI (j + 1))), (0, .ref (a 0)), (1, .int (nI k))]) hx hb dX9_whenNothing_38 hl (k := 2) rfl (nI_1 j) (by decide) rfl (fun ls hl => ?_)
          refine lv_goto (tgt := 13) hx hb dX9_whenNothing_41 (by decide) ?_
          exact ih_J (j + 1)  (by omega) (by omega) (hv.trans (ffV_f (by omega) (by simp [c_25]))) _ _ _ (hw) (lv_sub hl [1, 2, 0] rfl)
        · skip
          refine lv_iload_n hx hb dX9_whenNothing_28 rfl (lv_at hl 2 rfl) ?_
          exact r_iret cx hw (⟨_, by rw [hv, ffV_t (by omega) (by simp [c_25])], rfl⟩) (Nat.le_of_ble_eq_true rfl) (Nat.le_of_ble_eq_true rfl) dX9_whenNothing_29
  refine lv_aload_n hx hb dX9_whenNothing_0 rfl (lv_at hl 0 rfl) ?_
  refine r_get cx hw in_X9 0 (ci := 8) (T := TX9) (N := 13) rfl rfl 0 (by decide) q1169 (fun _ h9 => h9) rfl dX9_whenNothing_1 ?_
  refine lv_aload_n hx hb dX9_whenNothing_4 rfl (lv_at hl 0 rfl) ?_
  refine r_get cx hw in_X9 0 (ci := 8) (T := TX9) (N := 13) rfl rfl 1 (by decide) q1170 (fun _ h9 => h9) rfl dX9_whenNothing_5 ?_
  refine r_det (r_S cx hw (kX9_copies l hl9 g (a 1) (a 2) s m) (va_cwS 2 hts (lw_S q1243 q1244 q94 q1245) rfl rfl rfl (by decide +kernel) ⟨Nat.le_of_ble_eq_true rfl, Nat.le_of_ble_eq_true rfl⟩) [1, 2] rfl rfl rfl hl.1 rfl (Nat.le_of_ble_eq_true rfl) dX9_whenNothing_8 ⟨Nat.le_of_ble_eq_true rfl, Nat.le_of_ble_eq_true rfl⟩) cx hw [1, 2] rfl rfl rfl (ws' := WM g a s s im wa L R rf nu hi lm rn pl sd) (rfl) (fun H locs hw => ?_)
  refine W.eq (g2 := F0 m9 11 ls []) rfl ?_
  refine lv_iconst (v := 0) hx hb dX9_whenNothing_11 (by decide) ?_
  refine lv_istore_n (lv' := [(2, .int 0), (0, .ref (a 0)), (1, .int (nI k))]) hx hb dX9_whenNothing_12 rfl hl (by decide) rfl (fun ls hl => ?_)
  exact J (61 + 1) 0  (by omega) (by omega) rfl _ _ _ (hw) (lv_sub hl [1, 2, 0] rfl)

set_option maxHeartbeats 4000000 in
set_option maxRecDepth 100000 in
theorem kX9_firstDry (l : Launch) (hl9 : l.stackTraces = false) (g : GG) (a : Nat → Nat) (s m im wa L R rf nu : Nat → Int32) (hi lm rn pl sd : Int32) (hI : InvM s) : MC l yX9_firstDry cX9_firstDry 5 (some .int) 5 111 0 0 g [.ref (a 0)] (WM g a s m im wa L R rf nu hi lm rn pl sd) (rtE (α := Nat → Int32) (some (.int (fdF s))) (fun x9 => WM g a s x9 im wa L R rf nu hi lm rn pl sd)) (noX) := by
  refine MC.of (by decide) (Nat.le_of_ble_eq_true rfl) ?_
  intro p9 e9 s9 m9 args9 below9 meth9 c9 A9 ls cx htab hw hl
  have hx := cx.1
  have hb := cx.2.1
  have hts := cx.2.2.2.2.1
  have hK := cx.2.2.2.2.2.2.2.1
  have hl : lv_has ls 5 [(0, .ref (a 0))] := hl
  have hN := hI.1
  have J : ∀ (n9 j : Nat) (mm : Nat → Int32), j ≤ nN s → nN s < n9 + j → ∀ (H : Heap) (locs : List Loc) (ls : Array Slot), WS g A9 s9.heap (WM g a s mm im wa L R rf nu hi lm rn pl sd) H locs → lv_has ls 5 [(0, .ref (a 0)), (1, .int ((fdA s j).1)), (2, .int ((fdA s j).2)), (3, .int (nI j))] → W p9 l e9 (rmC 5 111 0 0) s9 m9 args9 below9 meth9 c9 H locs 0 0 (vx_MQ below9 (PostA g A9 (rtE (α := Nat → Int32) (some (.int (fdF s))) (fun x9 => WM g a s x9 im wa L R rf nu hi lm rn pl sd))) (PxA g A9 (pxR (noX))) args9 s9 0 0 A9) (F0 m9 8 ls []) := by
    intro n9
    induction n9 with
    | zero => intro j mm hj hk9; exact absurd hk9 (by omega)
    | succ n9 ih_J =>
      intro j mm hj hk9  H locs ls hw hl
      refine lv_iload_n hx hb dX9_firstDry_8 rfl (lv_at hl 3 rfl) ?_
      refine lv_aload_n hx hb dX9_firstDry_9 rfl (lv_at hl 0 rfl) ?_
      refine r_get cx hw in_X9 0 (ci := 8) (T := TX9) (N := 13) rfl rfl 0 (by decide) q1169 (fun _ h9 => h9) rfl dX9_firstDry_10 ?_
      refine lv_iconst (v := 0) hx hb dX9_firstDry_13 (by decide) ?_
      refine r_iald cx hw 1 rfl 0 rfl (by omega) (Nat.le_of_ble_eq_true rfl) dX9_firstDry_14 ?_
      refine r_topi (x' := nI (nN s)) (hI.2.1) ?_
      refine lv_icmp_ge (tgt := 54) hx hb dX9_firstDry_15 (by decide) (fun c_15 => ?_) (fun c_15 => ?_)
      · skip
        have c_15 : (nN s) ≤ j := (nI_leI (a := (nN s)) (b := j) (by omega) (by omega)).mp c_15
        refine lv_iload_n hx hb dX9_firstDry_54 rfl (lv_at hl 1 rfl) ?_
        exact r_iret cx hw (⟨_, by rw [fdF, show j = nN s by omega], rfl⟩) (Nat.le_of_ble_eq_true rfl) (Nat.le_of_ble_eq_true rfl) dX9_firstDry_55
      · skip
        have c_15 : j < (nN s) := Nat.not_le.mp (fun h9 => c_15 ((nI_leI (a := (nN s)) (b := j) (by omega) (by omega)).mpr h9))
        refine lv_aload_n hx hb dX9_firstDry_18 rfl (lv_at hl 0 rfl) ?_
        refine lv_iload_n hx hb dX9_firstDry_19 rfl (lv_at hl 3 rfl) ?_
        refine lv_iconst (v := 3) hx hb dX9_firstDry_20 (by decide) ?_
        refine r_det (r_S cx hw (kX9_of l hl9 g j 3) (va_cwS 2 hts (lw_S q1254 q1255 q94 q1256) rfl rfl rfl (by decide +kernel) ⟨Nat.le_of_ble_eq_true rfl, Nat.le_of_ble_eq_true rfl⟩) [] rfl rfl rfl hl.1 rfl (Nat.le_of_ble_eq_true rfl) dX9_firstDry_21 ⟨Nat.le_of_ble_eq_true rfl, Nat.le_of_ble_eq_true rfl⟩) cx hw [] rfl rfl rfl (ws' := WM g a s mm im wa L R rf nu hi lm rn pl sd) (rfl) (fun H locs hw => ?_)
        refine W.eq (g2 := F0 m9 24 ls [.int (nI (5 + 7 * j + 3)), .ref (a 0)]) rfl ?_
        refine r_detE (α := Nat → Int32) (r_V cx hw (kX9_whenNothing l hl9 g a s mm im wa L R rf nu hi lm rn pl sd hI (5 + 7 * j + 3) (by omega)) (cwV 1 hts (lw_V q1369 q1371 qs78 q94 q1372) rfl rfl rfl (by decide +kernel) ⟨Nat.le_of_ble_eq_true rfl, Nat.le_of_ble_eq_true rfl⟩) (r_recv hK hw (k := 0) (ci := 8) rfl rfl) [0, 1, 2, 3, 4, 5, 6, 7, 8] rfl rfl rfl hl.1 rfl (Nat.le_of_ble_eq_true rfl) dX9_firstDry_24 ⟨Nat.le_of_ble_eq_true rfl, Nat.le_of_ble_eq_true rfl⟩) cx hw [0, 1, 2, 3, 4, 5, 6, 7, 8] rfl rfl (fun _ => rfl) (ws' := fun x9 => WM g a s x9 im wa L R rf nu hi lm rn pl sd) (fun _ => rfl) (fun mm_2 H locs hw => ?_)
        refine W.eq (g2 := F0 m9 27 ls [.int (wnF s (5 + 7 * j + 3))]) rfl ?_
        have hw : WS g A9 s9.heap (WM g a s mm_2 im wa L R rf nu hi lm rn pl sd) H locs := hw
        refine lv_istore (lv' := [(4, .int (wnF s (5 + 7 * j + 3))), (0, .ref (a 0)), (1, .int ((fdA s j).1)), (2, .int ((fdA s j).2)), (3, .int (nI j))]) hx hb dX9_firstDry_27 hl (by decide) rfl (fun ls hl => ?_)
        refine lv_iload hx hb dX9_firstDry_29 (lv_at hl 0 rfl) ?_
        refine lv_if_lt (tgt := 48) hx hb dX9_firstDry_31 (by decide) (fun c_31 => ?_) (fun c_31 => ?_)
        · skip
          have c_31N := Int32.not_le.mpr c_31
          refine lv_iinc (v := nI (j + 1)) (lv' := [(3, .int (nI (j + 1))), (4, .int (wnF s (5 + 7 * j + 3))), (0, .ref (a 0)), (1, .int ((fdA s j).1)), (2, .int ((fdA s j).2))]) hx hb dX9_firstDry_48 hl (k := 4) rfl (nI_1 j) (by decide) rfl (fun ls hl => ?_)
          refine lv_goto (tgt := 8) hx hb dX9_firstDry_51 (by decide) ?_
          have e9 : fdA s (j + 1) = fdA s j := by show fdS s j (fdA s j) = _; rw [fdS, if_pos c_31]
          exact ih_J (j + 1) mm_2 (by omega) (by omega)  _ _ _ (hw) (by rw [e9]; exact lv_sub hl [2, 3, 4, 0] rfl)
        · skip
          have c_31N := Int32.not_lt.mp c_31
          refine lv_iload hx hb dX9_firstDry_34 (lv_at hl 0 rfl) ?_
          refine lv_iload_n hx hb dX9_firstDry_36 rfl (lv_at hl 3 rfl) ?_
          refine lv_icmp_lt (tgt := 43) hx hb dX9_firstDry_37 (by decide) (fun c_37 => ?_) (fun c_37 => ?_)
          · skip
            have c_37N := Int32.not_le.mpr c_37
            refine lv_iload_n hx hb dX9_firstDry_43 rfl (lv_at hl 4 rfl) ?_
            refine lv_istore_n (lv' := [(1, .int (nI j)), (4, .int (wnF s (5 + 7 * j + 3))), (0, .ref (a 0)), (2, .int ((fdA s j).2)), (3, .int (nI j))]) hx hb dX9_firstDry_44 rfl hl (by decide) rfl (fun ls hl => ?_)
            refine lv_iload hx hb dX9_firstDry_45 (lv_at hl 1 rfl) ?_
            refine lv_istore_n (lv' := [(2, .int (wnF s (5 + 7 * j + 3))), (1, .int (nI j)), (4, .int (wnF s (5 + 7 * j + 3))), (0, .ref (a 0)), (3, .int (nI j))]) hx hb dX9_firstDry_47 rfl hl (by decide) rfl (fun ls hl => ?_)
            refine lv_iinc (v := nI (j + 1)) (lv' := [(3, .int (nI (j + 1))), (2, .int (wnF s (5 + 7 * j + 3))), (1, .int (nI j)), (4, .int (wnF s (5 + 7 * j + 3))), (0, .ref (a 0))]) hx hb dX9_firstDry_48 hl (k := 4) rfl (nI_1 j) (by decide) rfl (fun ls hl => ?_)
            refine lv_goto (tgt := 8) hx hb dX9_firstDry_51 (by decide) ?_
            have e9 : fdA s (j + 1) = (nI j, wnF s (5 + 7 * j + 3)) := by show fdS s j (fdA s j) = _; rw [fdS, if_neg c_31, if_neg (Int32.not_le.mpr c_37)]
            exact ih_J (j + 1) mm_2 (by omega) (by omega)  _ _ _ (hw) (by rw [e9]; exact lv_sub hl [4, 2, 1, 0] rfl)
          · skip
            have c_37N := Int32.not_lt.mp c_37
            refine lv_goto (tgt := 48) hx hb dX9_firstDry_40 (by decide) ?_
            refine lv_iinc (v := nI (j + 1)) (lv' := [(3, .int (nI (j + 1))), (4, .int (wnF s (5 + 7 * j + 3))), (0, .ref (a 0)), (1, .int ((fdA s j).1)), (2, .int ((fdA s j).2))]) hx hb dX9_firstDry_48 hl (k := 4) rfl (nI_1 j) (by decide) rfl (fun ls hl => ?_)
            refine lv_goto (tgt := 8) hx hb dX9_firstDry_51 (by decide) ?_
            have e9 : fdA s (j + 1) = fdA s j := by show fdS s j (fdA s j) = _; rw [fdS, if_neg c_31, if_pos (Int32.not_lt.mp c_37)]
            exact ih_J (j + 1) mm_2 (by omega) (by omega)  _ _ _ (hw) (by rw [e9]; exact lv_sub hl [2, 3, 4, 0] rfl)
  refine lv_bipush (v := (-9)) hx hb dX9_firstDry_0 (by decide) ?_
  refine lv_istore_n (lv' := [(1, .int (-9)), (0, .ref (a 0))]) hx hb dX9_firstDry_2 rfl hl (by decide) rfl (fun ls hl => ?_)
  refine lv_ldc hx hb cx.2.2.2.1 (hts _ q1368) dX9_firstDry_3 ?_
  refine lv_istore_n (lv' := [(2, .int 1000000000), (1, .int (-9)), (0, .ref (a 0))]) hx hb dX9_firstDry_5 rfl hl (by decide) rfl (fun ls hl => ?_)
  refine lv_iconst (v := 0) hx hb dX9_firstDry_6 (by decide) ?_
  refine lv_istore_n (lv' := [(3, .int 0), (2, .int 1000000000), (1, .int (-9)), (0, .ref (a 0))]) hx hb dX9_firstDry_7 rfl hl (by decide) rfl (fun ls hl => ?_)
  exact J (nN s + 1) 0 m (by omega) (by omega)  _ _ _ (hw) (lv_sub hl [3, 2, 1, 0] rfl)

set_option maxHeartbeats 4000000 in
set_option maxRecDepth 100000 in
theorem kX9_dry (l : Launch) (hl9 : l.stackTraces = false) (g : GG) (a : Nat → Nat) (s m im wa L R rf nu : Nat → Int32) (hi lm rn pl sd : Int32) (hI : InvM s) (p : Int32) : MC l yX9_dry cX9_dry 2 (some .int) 6 135 0 0 g [.ref (a 0), .int p] (WM g a s m im wa L R rf nu hi lm rn pl sd) (rtE (α := Nat → Int32) (some (.int (ans (wDry s p) (vDry s p)))) (fun x9 => WM g a s x9 im wa L R (rfA (wDry s p) rf) nu hi lm rn pl sd)) (noX) := by
  by_cases h1 : p = -1
  · skip
    subst h1
    have hW : wDry s (-1) = 0 := by simp [wDry]
    refine MC.of (by decide) (Nat.le_of_ble_eq_true rfl) ?_
    intro p9 e9 s9 m9 args9 below9 meth9 c9 A9 ls cx htab hw hl
    have hx := cx.1
    have hb := cx.2.1
    have hts := cx.2.2.2.2.1
    have hK := cx.2.2.2.2.2.2.2.1
    have hl : lv_has ls 2 [(0, .ref (a 0)), (1, .int (-1))] := hl
    refine lv_iload_n hx hb dX9_dry_0 rfl (lv_at hl 1 rfl) ?_
    refine lv_iconst (v := (-1)) hx hb dX9_dry_1 (by decide) ?_
    refine lv_icmp_ne (tgt := 12) hx hb dX9_dry_2 (by decide) (fun c_2 => absurd c_2 (by decide)) (fun c_2 => ?_)
    refine lv_aload_n hx hb dX9_dry_5 rfl (lv_at hl 0 rfl) ?_
    refine r_detE (α := Nat → Int32) (r_V cx hw (kX9_firstDry l hl9 g a s m im wa L R rf nu hi lm rn pl sd hI) (cwV 0 hts (lw_V q1364 q1366 qs77 q94 q1367) rfl rfl rfl (by decide +kernel) ⟨Nat.le_of_ble_eq_true rfl, Nat.le_of_ble_eq_true rfl⟩) (r_recv hK hw (k := 0) (ci := 8) rfl rfl) [0, 1, 2, 3, 4, 5, 6, 7, 8] rfl rfl rfl hl.1 rfl (Nat.le_of_ble_eq_true rfl) dX9_dry_6 ⟨Nat.le_of_ble_eq_true rfl, Nat.le_of_ble_eq_true rfl⟩) cx hw [0, 1, 2, 3, 4, 5, 6, 7, 8] rfl rfl (fun _ => rfl) (ws' := fun x9 => WM g a s x9 im wa L R rf nu hi lm rn pl sd) (fun _ => rfl) (fun mm_2 H locs hw => ?_)
    refine W.eq (g2 := F0 m9 9 ls [.int (fdF s)]) rfl ?_
    have hw : WS g A9 s9.heap (WM g a s mm_2 im wa L R rf nu hi lm rn pl sd) H locs := hw
    refine lv_goto (tgt := 37) hx hb dX9_dry_9 (by decide) ?_
    exact r_iret cx hw (⟨_, by rw [hW, ans_0]; rw [vDry, if_pos rfl], by rw [hW, rfA_0]⟩) (Nat.le_of_ble_eq_true rfl) (Nat.le_of_ble_eq_true rfl) dX9_dry_37
  · skip
    by_cases hps_p : psB s p = true
    · skip
      obtain ⟨k, hk, rfl⟩ := psB_rng hI hps_p
      have hN := hI.1
      have ek : tN (nI k) = k := tN_nI (by omega)
      have h1 : ¬ nI k = -1 := h1
      have hW : wDry s (nI k) = 0 := by simp [wDry, h1, hps_p]
      refine MC.of (by decide) (Nat.le_of_ble_eq_true rfl) ?_
      intro p9 e9 s9 m9 args9 below9 meth9 c9 A9 ls cx htab hw hl
      have hx := cx.1
      have hb := cx.2.1
      have hts := cx.2.2.2.2.1
      have hK := cx.2.2.2.2.2.2.2.1
      have hl : lv_has ls 2 [(0, .ref (a 0)), (1, .int (nI k))] := hl
      refine lv_iload_n hx hb dX9_dry_0 rfl (lv_at hl 1 rfl) ?_
      refine lv_iconst (v := (-1)) hx hb dX9_dry_1 (by decide) ?_
      refine lv_icmp_ne (tgt := 12) hx hb dX9_dry_2 (by decide) (fun c_9 => ?_) (fun c_9 => absurd c_9 h1)
      refine lv_aload_n hx hb dX9_dry_12 rfl (lv_at hl 0 rfl) ?_
      refine lv_iload_n hx hb dX9_dry_13 rfl (lv_at hl 1 rfl) ?_
      refine r_det (r_V cx hw (kX9_isPerson l hl9 g a s m im wa L R rf nu hi lm rn pl sd (nI k)) (cwV 1 hts (lw_V q1257 q1259 qs72 q94 q1260) rfl rfl rfl (by decide +kernel) ⟨Nat.le_of_ble_eq_true rfl, Nat.le_of_ble_eq_true rfl⟩) (r_recv hK hw (k := 0) (ci := 8) rfl rfl) [0, 1, 2, 3, 4, 5, 6, 7, 8] rfl rfl rfl hl.1 rfl (Nat.le_of_ble_eq_true rfl) dX9_dry_14 ⟨Nat.le_of_ble_eq_true rfl, Nat.le_of_ble_eq_true rfl⟩) cx hw [0, 1, 2, 3, 4, 5, 6, 7, 8] rfl rfl rfl (ws' := WM g a s m im wa L R rf nu hi lm rn pl sd) (rfl) (fun H locs hw => ?_)
      refine W.eq (g2 := F0 m9 17 ls [.int (bI (psB s (nI k)))]) rfl ?_
      refine lv_if_eq (tgt := 32) hx hb dX9_dry_17 (by decide) (fun c_17 => absurd c_17 (by rw [hps_p]; decide)) (fun c_17 => ?_)
      refine lv_aload_n hx hb dX9_dry_20 rfl (lv_at hl 0 rfl) ?_
      refine lv_iload_n hx hb dX9_dry_21 rfl (lv_at hl 1 rfl) ?_
      refine lv_iconst (v := 3) hx hb dX9_dry_22 (by decide) ?_
      refine r_det (r_S cx hw (kX9_of l hl9 g k 3) (va_cwS 2 hts (lw_S q1254 q1255 q94 q1256) rfl rfl rfl (by decide +kernel) ⟨Nat.le_of_ble_eq_true rfl, Nat.le_of_ble_eq_true rfl⟩) [] rfl rfl rfl hl.1 rfl (Nat.le_of_ble_eq_true rfl) dX9_dry_23 ⟨Nat.le_of_ble_eq_true rfl, Nat.le_of_ble_eq_true rfl⟩) cx hw [] rfl rfl rfl (ws' := WM g a s m im wa L R rf nu hi lm rn pl sd) (rfl) (fun H locs hw => ?_)
      refine W.eq (g2 := F0 m9 26 ls [.int (nI (5 + 7 * k + 3)), .ref (a 0)]) rfl ?_
      refine r_detE (α := Nat → Int32) (r_V cx hw (kX9_whenNothing l hl9 g a s m im wa L R rf nu hi lm rn pl sd hI (5 + 7 * k + 3) (by omega)) (cwV 1 hts (lw_V q1369 q1371 qs78 q94 q1372) rfl rfl rfl (by decide +kernel) ⟨Nat.le_of_ble_eq_true rfl, Nat.le_of_ble_eq_true rfl⟩) (r_recv hK hw (k := 0) (ci := 8) rfl rfl) [0, 1, 2, 3, 4, 5, 6, 7, 8] rfl rfl rfl hl.1 rfl (Nat.le_of_ble_eq_true rfl) dX9_dry_26 ⟨Nat.le_of_ble_eq_true rfl, Nat.le_of_ble_eq_true rfl⟩) cx hw [0, 1, 2, 3, 4, 5, 6, 7, 8] rfl rfl (fun _ => rfl) (ws' := fun x9 => WM g a s x9 im wa L R rf nu hi lm rn pl sd) (fun _ => rfl) (fun mm_3 H locs hw => ?_)
      refine W.eq (g2 := F0 m9 29 ls [.int (wnF s (5 + 7 * k + 3))]) rfl ?_
      have hw : WS g A9 s9.heap (WM g a s mm_3 im wa L R rf nu hi lm rn pl sd) H locs := hw
      refine lv_goto (tgt := 37) hx hb dX9_dry_29 (by decide) ?_
      exact r_iret cx hw (⟨_, by rw [hW, ans_0]; rw [vDry, if_neg h1, ek], by rw [hW, rfA_0]⟩) (Nat.le_of_ble_eq_true rfl) (Nat.le_of_ble_eq_true rfl) dX9_dry_37
    · skip
      have hps_p : psB s p = false := by simpa using hps_p
      have hW : wDry s p = -1 := by simp [wDry, h1, hps_p]
      have hne : ¬ wDry s p = 0 := by rw [hW]; decide
      refine MC.of (by decide) (Nat.le_of_ble_eq_true rfl) ?_
      intro p9 e9 s9 m9 args9 below9 meth9 c9 A9 ls cx htab hw hl
      have hx := cx.1
      have hb := cx.2.1
      have hts := cx.2.2.2.2.1
      have hK := cx.2.2.2.2.2.2.2.1
      have hl : lv_has ls 2 [(0, .ref (a 0)), (1, .int p)] := hl
      refine lv_iload_n hx hb dX9_dry_0 rfl (lv_at hl 1 rfl) ?_
      refine lv_iconst (v := (-1)) hx hb dX9_dry_1 (by decide) ?_
      refine lv_icmp_ne (tgt := 12) hx hb dX9_dry_2 (by decide) (fun c_9 => ?_) (fun c_9 => absurd c_9 h1)
      refine lv_aload_n hx hb dX9_dry_12 rfl (lv_at hl 0 rfl) ?_
      refine lv_iload_n hx hb dX9_dry_13 rfl (lv_at hl 1 rfl) ?_
      refine r_det (r_V cx hw (kX9_isPerson l hl9 g a s m im wa L R rf nu hi lm rn pl sd p) (cwV 1 hts (lw_V q1257 q1259 qs72 q94 q1260) rfl rfl rfl (by decide +kernel) ⟨Nat.le_of_ble_eq_true rfl, Nat.le_of_ble_eq_true rfl⟩) (r_recv hK hw (k := 0) (ci := 8) rfl rfl) [0, 1, 2, 3, 4, 5, 6, 7, 8] rfl rfl rfl hl.1 rfl (Nat.le_of_ble_eq_true rfl) dX9_dry_14 ⟨Nat.le_of_ble_eq_true rfl, Nat.le_of_ble_eq_true rfl⟩) cx hw [0, 1, 2, 3, 4, 5, 6, 7, 8] rfl rfl rfl (ws' := WM g a s m im wa L R rf nu hi lm rn pl sd) (rfl) (fun H locs hw => ?_)
      refine W.eq (g2 := F0 m9 17 ls [.int (bI (psB s p))]) rfl ?_
      refine lv_if_eq (tgt := 32) hx hb dX9_dry_17 (by decide) (fun c_17 => ?_) (fun c_17 => absurd c_17 (by rw [hps_p]; decide))
      refine lv_aload_n hx hb dX9_dry_32 rfl (lv_at hl 0 rfl) ?_
      refine lv_iconst (v := (-1)) hx hb dX9_dry_33 (by decide) ?_
      refine r_det (r_V cx hw (kX9_no l hl9 g a s m im wa L R rf nu hi lm rn pl sd (-1) (by unfold okC; decide)) (cwV 1 hts (lw_V q1213 q1215 qs65 q94 q1216) rfl rfl rfl (by decide +kernel) ⟨Nat.le_of_ble_eq_true rfl, Nat.le_of_ble_eq_true rfl⟩) (r_recv hK hw (k := 0) (ci := 8) rfl rfl) [0, 1, 2, 3, 4, 5, 6, 7, 8] rfl rfl rfl hl.1 rfl (Nat.le_of_ble_eq_true rfl) dX9_dry_34 ⟨Nat.le_of_ble_eq_true rfl, Nat.le_of_ble_eq_true rfl⟩) cx hw [0, 1, 2, 3, 4, 5, 6, 7, 8] rfl rfl rfl (ws' := WM g a s m im wa L R (rfU rf (-1)) nu hi lm rn pl sd) (rfl) (fun H locs hw => ?_)
      refine W.eq (g2 := F0 m9 37 ls [.int (-1)]) rfl ?_
      exact r_iret cx hw (⟨_, by rw [ans_n hne, hW], by rw [rfA_n hne, hW]⟩) (Nat.le_of_ble_eq_true rfl) (Nat.le_of_ble_eq_true rfl) dX9_dry_37

set_option maxHeartbeats 4000000 in
set_option maxRecDepth 100000 in
theorem kX9_empty (l : Launch) (hl9 : l.stackTraces = false) (g : GG) (a : Nat → Nat) (s m im wa L R rf nu : Nat → Int32) (hi lm rn pl sd : Int32) (hI : InvM s)  : MC l yX9_empty cX9_empty 1 (some .int) 5 111 0 0 g [.ref (a 0)] (WM g a s m im wa L R rf nu hi lm rn pl sd) (rtE (α := Nat → Int32) (some (.int (ans 0 (wnF s 2)))) (fun x9 => WM g a s x9 im wa L R (rfA 0 rf) nu hi lm rn pl sd)) (noX) := by
  refine MC.of (by decide) (Nat.le_of_ble_eq_true rfl) ?_
  intro p9 e9 s9 m9 args9 below9 meth9 c9 A9 ls cx htab hw hl
  have hx := cx.1
  have hb := cx.2.1
  have hts := cx.2.2.2.2.1
  have hK := cx.2.2.2.2.2.2.2.1
  have hl : lv_has ls 1 [(0, .ref (a 0))] := hl
  refine lv_aload_n hx hb dX9_empty_0 rfl (lv_at hl 0 rfl) ?_
  refine lv_iconst (v := 2) hx hb dX9_empty_1 (by decide) ?_
  refine r_detE (α := Nat → Int32) (r_V cx hw (kX9_whenNothing l hl9 g a s m im wa L R rf nu hi lm rn pl sd hI 2 (by omega)) (cwV 1 hts (lw_V q1369 q1371 qs78 q94 q1372) rfl rfl rfl (by decide +kernel) ⟨Nat.le_of_ble_eq_true rfl, Nat.le_of_ble_eq_true rfl⟩) (r_recv hK hw (k := 0) (ci := 8) rfl rfl) [0, 1, 2, 3, 4, 5, 6, 7, 8] rfl rfl rfl hl.1 rfl (Nat.le_of_ble_eq_true rfl) dX9_empty_2 ⟨Nat.le_of_ble_eq_true rfl, Nat.le_of_ble_eq_true rfl⟩) cx hw [0, 1, 2, 3, 4, 5, 6, 7, 8] rfl rfl (fun _ => rfl) (ws' := fun x9 => WM g a s x9 im wa L R rf nu hi lm rn pl sd) (fun _ => rfl) (fun mm_1 H locs hw => ?_)
  refine W.eq (g2 := F0 m9 5 ls [.int (wnF s 2)]) rfl ?_
  have hw : WS g A9 s9.heap (WM g a s mm_1 im wa L R rf nu hi lm rn pl sd) H locs := hw
  exact r_iret cx hw (⟨_, by rw [ans_0], by rw [rfA_0]⟩) (Nat.le_of_ble_eq_true rfl) (Nat.le_of_ble_eq_true rfl) dX9_empty_5

set_option maxHeartbeats 4000000 in
set_option maxRecDepth 100000 in
theorem kX9_isNoneDry (l : Launch) (hl9 : l.stackTraces = false) (g : GG) (a : Nat → Nat) (s m im wa L R rf nu : Nat → Int32) (hi lm rn pl sd : Int32) (hI : InvM m) (z : Int32) (n : Nat) (hn : n < 1000) : MC l yX9_isNoneDry cX9_isNoneDry 4 (some .boolean) 4 89 0 0 g [.ref (a 0), .int z, .int (nI n)] (WM g a s m im wa L R rf nu hi lm rn pl sd) (rtE (α := Nat → Int32) (some (.int (bI (ndB m z (n + 1))))) (fun x9 => WM g a s x9 im wa L R rf nu hi lm rn pl sd)) (noX) := by
  refine MC.of (by decide) (Nat.le_of_ble_eq_true rfl) ?_
  intro p9 e9 s9 m9 args9 below9 meth9 c9 A9 ls cx htab hw hl
  have hx := cx.1
  have hb := cx.2.1
  have hts := cx.2.2.2.2.1
  have hK := cx.2.2.2.2.2.2.2.1
  have hl : lv_has ls 4 [(0, .ref (a 0)), (1, .int z), (2, .int (nI n))] := hl
  have J : ∀ (n9 j : Nat) , j ≤ (n + 1) → (n + 1) < n9 + j → alB (fun k => decide (dryF (hoursF m k) &&& z = 0)) j = true → ∀ (H : Heap) (locs : List Loc) (ls : Array Slot), WS g A9 s9.heap (WM g a s (hoursF m j) im wa L R rf nu hi lm rn pl sd) H locs → lv_has ls 4 [(0, .ref (a 0)), (1, .int z), (2, .int (nI n)), (3, .int (nI j))] → W p9 l e9 (rmC 4 89 0 0) s9 m9 args9 below9 meth9 c9 H locs 0 0 (vx_MQ below9 (PostA g A9 (rtE (α := Nat → Int32) (some (.int (bI (ndB m z (n + 1))))) (fun x9 => WM g a s x9 im wa L R rf nu hi lm rn pl sd))) (PxA g A9 (pxR (noX))) args9 s9 0 0 A9) (F0 m9 2 ls []) := by
    intro n9
    induction n9 with
    | zero => intro j  hj hk9; exact absurd hk9 (by omega)
    | succ n9 ih_J =>
      intro j  hj hk9 hv H locs ls hw hl
      refine lv_iload_n hx hb dX9_isNoneDry_2 rfl (lv_at hl 3 rfl) ?_
      refine lv_iload_n hx hb dX9_isNoneDry_3 rfl (lv_at hl 2 rfl) ?_
      refine lv_icmp_gt (tgt := 35) hx hb dX9_isNoneDry_4 (by decide) (fun c_4 => ?_) (fun c_4 => ?_)
      · skip
        have c_4 : n < j := (nI_ltI (a := n) (b := j) (by omega) (by omega)).mp c_4
        refine lv_iconst (v := 1) hx hb dX9_isNoneDry_35 (by decide) ?_
        exact r_zret (by decide) cx hw (⟨_, by rw [show ndB m z (n + 1) = true by rw [← show j = n + 1 by omega]; exact hv]; rfl, rfl⟩) (Nat.le_of_ble_eq_true rfl) (Nat.le_of_ble_eq_true rfl) dX9_isNoneDry_36
      · skip
        have c_4 : j ≤ n := Nat.not_lt.mp (fun h9 => c_4 ((nI_ltI (a := n) (b := j) (by omega) (by omega)).mpr h9))
        refine lv_aload_n hx hb dX9_isNoneDry_7 rfl (lv_at hl 0 rfl) ?_
        refine r_get cx hw in_X9 0 (ci := 8) (T := TX9) (N := 13) rfl rfl 1 (by decide) q1170 (fun _ h9 => h9) rfl dX9_isNoneDry_8 ?_
        refine r_det (r_S cx hw (kX9_dryOnes l hl9 g (a 2) (hoursF m j) (hI.hours j)) (va_cwS 1 hts (lw_S q1385 q1386 q94 q1387) rfl rfl rfl (by decide +kernel) ⟨Nat.le_of_ble_eq_true rfl, Nat.le_of_ble_eq_true rfl⟩) [2] rfl rfl rfl hl.1 rfl (Nat.le_of_ble_eq_true rfl) dX9_isNoneDry_11 ⟨Nat.le_of_ble_eq_true rfl, Nat.le_of_ble_eq_true rfl⟩) cx hw [2] rfl rfl rfl (ws' := WM g a s (hoursF m j) im wa L R rf nu hi lm rn pl sd) (rfl) (fun H locs hw => ?_)
        refine W.eq (g2 := F0 m9 14 ls [.int (dryF (hoursF m j))]) rfl ?_
        refine lv_iload_n hx hb dX9_isNoneDry_14 rfl (lv_at hl 1 rfl) ?_
        refine lv_iand hx hb dX9_isNoneDry_15 ?_
        refine lv_if_eq (tgt := 21) hx hb dX9_isNoneDry_16 (by decide) (fun c_16 => ?_) (fun c_16 => ?_)
        · skip
          refine lv_aload_n hx hb dX9_isNoneDry_21 rfl (lv_at hl 0 rfl) ?_
          refine r_get cx hw in_X9 0 (ci := 8) (T := TX9) (N := 13) rfl rfl 1 (by decide) q1170 (fun _ h9 => h9) rfl dX9_isNoneDry_22 ?_
          refine lv_iconst (v := 0) hx hb dX9_isNoneDry_25 (by decide) ?_
          refine r_det (r_S cx hw (kX9_hour l hl9 g (a 2) (hoursF m j) (hI.hours j) 0) (va_cwS 2 hts (lw_S q1264 q1265 q94 q1266) rfl rfl rfl (by decide +kernel) ⟨Nat.le_of_ble_eq_true rfl, Nat.le_of_ble_eq_true rfl⟩) [2] rfl rfl rfl hl.1 rfl (Nat.le_of_ble_eq_true rfl) dX9_isNoneDry_26 ⟨Nat.le_of_ble_eq_true rfl, Nat.le_of_ble_eq_true rfl⟩) cx hw [2] rfl rfl rfl (ws' := WM g a s (hourF (hoursF m j) 0) im wa L R rf nu hi lm rn pl sd) (rfl) (fun H locs hw => ?_)
          refine W.eq (g2 := F0 m9 29 ls []) rfl ?_
          refine lv_iinc (v := nI (j + 1)) (lv' := [(3, .int (nI (j + 1))), (0, .ref (a 0)), (1, .int z), (2, .int (nI n))]) hx hb dX9_isNoneDry_29 hl (k := 3) rfl (nI_1 j) (by decide) rfl (fun ls hl => ?_)
          refine lv_goto (tgt := 2) hx hb dX9_isNoneDry_32 (by decide) ?_
          exact ih_J (j + 1)  (by omega) (by omega) (by rw [alB, hv]; simp [c_16]) _ _ _ (hw) (lv_sub hl [1, 2, 3, 0] rfl)
        · skip
          refine lv_iconst (v := 0) hx hb dX9_isNoneDry_19 (by decide) ?_
          exact r_zret (by decide) cx hw (⟨_, by rw [show ndB m z (n + 1) = false from alB_f (j := j) (by omega) (by simp [c_16])]; rfl, rfl⟩) (Nat.le_of_ble_eq_true rfl) (Nat.le_of_ble_eq_true rfl) dX9_isNoneDry_20
  refine lv_iconst (v := 0) hx hb dX9_isNoneDry_0 (by decide) ?_
  refine lv_istore_n (lv' := [(3, .int 0), (0, .ref (a 0)), (1, .int z), (2, .int (nI n))]) hx hb dX9_isNoneDry_1 rfl hl (by decide) rfl (fun ls hl => ?_)
  exact J ((n + 1) + 1) 0  (by omega) (by omega) rfl _ _ _ (hw) (lv_sub hl [1, 2, 3, 0] rfl)

set_option maxHeartbeats 4000000 in
set_option maxRecDepth 100000 in
theorem kX9_flowBest (l : Launch) (hl9 : l.stackTraces = false) (g : GG) (a : Nat → Nat) (s m im wa L R rf nu : Nat → Int32) (hi lm rn pl sd : Int32) (hI : InvM s) (n : Int32) : MC l yX9_flowBest cX9_flowBest 4 (some .int) 5 112 0 0 g [.ref (a 0), .int n] (WM g a s m im wa L R rf nu hi lm rn pl sd) (rtE (α := Nat → Int32) (some (.int (ans (wrF n 0 48) (vFlb s (tN n))))) (fun x9 => WM g a s x9 im wa L R (rfA (wrF n 0 48) rf) nu hi lm rn pl sd)) (noX) := by
  by_cases hwr_n : wrF n 0 48 = 0
  · skip
    obtain ⟨q, hq, rfl⟩ := nI_rng (M := 48) (by decide) (Int32.le_trans (by decide) (wrF_0 hwr_n).1) (wrF_0 hwr_n).2
    have eq : tN (nI q) = q := tN_nI (by omega)
    have hW : wrF (nI q) 0 48 = 0 := hwr_n
    refine MC.of (by decide) (Nat.le_of_ble_eq_true rfl) ?_
    intro p9 e9 s9 m9 args9 below9 meth9 c9 A9 ls cx htab hw hl
    have hx := cx.1
    have hb := cx.2.1
    have hts := cx.2.2.2.2.1
    have hK := cx.2.2.2.2.2.2.2.1
    have hl : lv_has ls 4 [(0, .ref (a 0)), (1, .int (nI q))] := hl
    have J : ∀ (n9 j : Nat) (mm : Nat → Int32), j ≤ 31 → 31 < n9 + j → vFlb s q = ffV (fun v => ndB (upd s 3 (nI v)) (-1) (q + 1)) (31 - j) j → ∀ (H : Heap) (locs : List Loc) (ls : Array Slot), WS g A9 s9.heap (WM g a s mm im wa L R rf nu hi lm rn pl sd) H locs → lv_has ls 4 [(0, .ref (a 0)), (1, .int (nI q)), (3, .int (nI j))] → W p9 l e9 (rmC 5 112 0 0) s9 m9 args9 below9 meth9 c9 H locs 0 0 (vx_MQ below9 (PostA g A9 (rtE (α := Nat → Int32) (some (.int (ans (wrF (nI q) 0 48) (vFlb s (tN (nI q)))))) (fun x9 => WM g a s x9 im wa L R (rfA (wrF (nI q) 0 48) rf) nu hi lm rn pl sd))) (PxA g A9 (pxR (noX))) args9 s9 0 0 A9) (F0 m9 20 ls []) := by
      intro n9
      induction n9 with
      | zero => intro j mm hj hk9; exact absurd hk9 (by omega)
      | succ n9 ih_J =>
        intro j mm hj hk9 hv H locs ls hw hl
        refine lv_iload_n hx hb dX9_flowBest_20 rfl (lv_at hl 2 rfl) ?_
        refine lv_bipush (v := 30) hx hb dX9_flowBest_21 (by decide) ?_
        refine lv_icmp_gt (tgt := 61) hx hb dX9_flowBest_23 (by decide) (fun c_23 => ?_) (fun c_23 => ?_)
        · skip
          have c_23 : 30 < j := (nI_ltI (a := 30) (b := j) (by omega) (by omega)).mp c_23
          refine lv_bipush (v := (-9)) hx hb dX9_flowBest_61 (by decide) ?_
          exact r_iret cx hw (⟨_, by rw [hW, ans_0, eq, hv, ffV_e (by omega)], by rw [hW, rfA_0]⟩) (Nat.le_of_ble_eq_true rfl) (Nat.le_of_ble_eq_true rfl) dX9_flowBest_63
        · skip
          have c_23 : j ≤ 30 := Nat.not_lt.mp (fun h9 => c_23 ((nI_ltI (a := 30) (b := j) (by omega) (by omega)).mpr h9))
          refine lv_aload_n hx hb dX9_flowBest_26 rfl (lv_at hl 0 rfl) ?_
          refine r_get cx hw in_X9 0 (ci := 8) (T := TX9) (N := 13) rfl rfl 0 (by decide) q1169 (fun _ h9 => h9) rfl dX9_flowBest_27 ?_
          refine lv_aload_n hx hb dX9_flowBest_30 rfl (lv_at hl 0 rfl) ?_
          refine r_get cx hw in_X9 0 (ci := 8) (T := TX9) (N := 13) rfl rfl 1 (by decide) q1170 (fun _ h9 => h9) rfl dX9_flowBest_31 ?_
          refine r_det (r_S cx hw (kX9_copies l hl9 g (a 1) (a 2) s mm) (va_cwS 2 hts (lw_S q1243 q1244 q94 q1245) rfl rfl rfl (by decide +kernel) ⟨Nat.le_of_ble_eq_true rfl, Nat.le_of_ble_eq_true rfl⟩) [1, 2] rfl rfl rfl hl.1 rfl (Nat.le_of_ble_eq_true rfl) dX9_flowBest_34 ⟨Nat.le_of_ble_eq_true rfl, Nat.le_of_ble_eq_true rfl⟩) cx hw [1, 2] rfl rfl rfl (ws' := WM g a s s im wa L R rf nu hi lm rn pl sd) (rfl) (fun H locs hw => ?_)
          refine W.eq (g2 := F0 m9 37 ls []) rfl ?_
          refine lv_aload_n hx hb dX9_flowBest_37 rfl (lv_at hl 0 rfl) ?_
          refine r_get cx hw in_X9 0 (ci := 8) (T := TX9) (N := 13) rfl rfl 1 (by decide) q1170 (fun _ h9 => h9) rfl dX9_flowBest_38 ?_
          refine lv_iconst (v := 3) hx hb dX9_flowBest_41 (by decide) ?_
          refine lv_iload_n hx hb dX9_flowBest_42 rfl (lv_at hl 2 rfl) ?_
          refine r_iast cx hw 2 rfl 3 rfl (by omega) (Nat.le_of_ble_eq_true rfl) dX9_flowBest_43 (fun H locs hw => ?_)
          have hw : WS g A9 s9.heap (WM g a s (upd s 3 (nI j)) im wa L R rf nu hi lm rn pl sd) H locs := hw
          refine lv_aload_n hx hb dX9_flowBest_44 rfl (lv_at hl 0 rfl) ?_
          refine lv_iconst (v := (-1)) hx hb dX9_flowBest_45 (by decide) ?_
          refine lv_iload_n hx hb dX9_flowBest_46 rfl (lv_at hl 1 rfl) ?_
          refine r_detE (α := Nat → Int32) (r_V cx hw (kX9_isNoneDry l hl9 g a s (upd s 3 (nI j)) im wa L R rf nu hi lm rn pl sd (InvM_upd hI (by decide) (fun j => by omega)) (-1) q (by omega)) (cwV 2 hts (lw_V q1381 q1383 qs79 q94 q1384) rfl rfl rfl (by decide +kernel) ⟨Nat.le_of_ble_eq_true rfl, Nat.le_of_ble_eq_true rfl⟩) (r_recv hK hw (k := 0) (ci := 8) rfl rfl) [0, 1, 2, 3, 4, 5, 6, 7, 8] rfl rfl rfl hl.1 rfl (Nat.le_of_ble_eq_true rfl) dX9_flowBest_47 ⟨Nat.le_of_ble_eq_true rfl, Nat.le_of_ble_eq_true rfl⟩) cx hw [0, 1, 2, 3, 4, 5, 6, 7, 8] rfl rfl (fun _ => rfl) (ws' := fun x9 => WM g a s x9 im wa L R rf nu hi lm rn pl sd) (fun _ => rfl) (fun mm_2 H locs hw => ?_)
          refine W.eq (g2 := F0 m9 50 ls [.int (bI (ndB (upd s 3 (nI j)) (-1) (q + 1)))]) rfl ?_
          have hw : WS g A9 s9.heap (WM g a s mm_2 im wa L R rf nu hi lm rn pl sd) H locs := hw
          refine lv_if_eq (tgt := 55) hx hb dX9_flowBest_50 (by decide) (fun c_50 => ?_) (fun c_50 => ?_)
          · skip
            have c_50 := bI_e0 c_50
            refine lv_iinc (v := nI (j + 1)) (lv' := [(3, .int (nI (j + 1))), (0, .ref (a 0)), (1, .int (nI q))]) hx hb dX9_flowBest_55 hl (k := 2) rfl (nI_1 j) (by decide) rfl (fun ls hl => ?_)
            refine lv_goto (tgt := 20) hx hb dX9_flowBest_58 (by decide) ?_
            exact ih_J (j + 1) mm_2 (by omega) (by omega) (hv.trans (ffV_f (by omega) c_50)) _ _ _ (hw) (lv_sub hl [1, 2, 0] rfl)
          · skip
            have c_50 := bI_n0 c_50
            refine lv_iload_n hx hb dX9_flowBest_53 rfl (lv_at hl 2 rfl) ?_
            exact r_iret cx hw (⟨_, by rw [hW, ans_0, eq, hv, ffV_t (c := fun v => ndB (upd s 3 (nI v)) (-1) (q + 1)) (j := j) (by omega) c_50], by rw [hW, rfA_0]⟩) (Nat.le_of_ble_eq_true rfl) (Nat.le_of_ble_eq_true rfl) dX9_flowBest_54
    refine lv_iload_n hx hb dX9_flowBest_0 rfl (lv_at hl 1 rfl) ?_
    refine lv_iconst (v := 0) hx hb dX9_flowBest_1 (by decide) ?_
    refine lv_bipush (v := 48) hx hb dX9_flowBest_2 (by decide) ?_
    refine r_det (r_S cx hw (kX9_wrongBy l hl9 g (nI q) 0 48) (va_cwS 3 hts (lw_S q1318 q1319 q94 q1320) rfl rfl rfl (by decide +kernel) ⟨Nat.le_of_ble_eq_true rfl, Nat.le_of_ble_eq_true rfl⟩) [] rfl rfl rfl hl.1 rfl (Nat.le_of_ble_eq_true rfl) dX9_flowBest_4 ⟨Nat.le_of_ble_eq_true rfl, Nat.le_of_ble_eq_true rfl⟩) cx hw [] rfl rfl rfl (ws' := WM g a s m im wa L R rf nu hi lm rn pl sd) (rfl) (fun H locs hw => ?_)
    refine W.eq (g2 := F0 m9 7 ls [.int (wrF (nI q) 0 48)]) rfl ?_
    refine lv_istore_n (lv' := [(2, .int (wrF (nI q) 0 48)), (0, .ref (a 0)), (1, .int (nI q))]) hx hb dX9_flowBest_7 rfl hl (by decide) rfl (fun ls hl => ?_)
    refine lv_iload_n hx hb dX9_flowBest_8 rfl (lv_at hl 0 rfl) ?_
    refine lv_if_eq (tgt := 18) hx hb dX9_flowBest_9 (by decide) (fun c_9 => ?_) (fun c_9 => absurd hwr_n c_9)
    refine lv_iconst (v := 0) hx hb dX9_flowBest_18 (by decide) ?_
    refine lv_istore_n (lv' := [(3, .int 0), (2, .int (wrF (nI q) 0 48)), (0, .ref (a 0)), (1, .int (nI q))]) hx hb dX9_flowBest_19 rfl hl (by decide) rfl (fun ls hl => ?_)
    exact J (31 + 1) 0 m (by omega) (by omega) rfl _ _ _ (hw) (lv_sub hl [2, 3, 0] rfl)
  · skip
    have hW : wrF n 0 48 = wrF n 0 48 := rfl
    have hne : ¬ wrF n 0 48 = 0 := by rw [hW]; exact hwr_n
    refine MC.of (by decide) (Nat.le_of_ble_eq_true rfl) ?_
    intro p9 e9 s9 m9 args9 below9 meth9 c9 A9 ls cx htab hw hl
    have hx := cx.1
    have hb := cx.2.1
    have hts := cx.2.2.2.2.1
    have hK := cx.2.2.2.2.2.2.2.1
    have hl : lv_has ls 4 [(0, .ref (a 0)), (1, .int n)] := hl
    refine lv_iload_n hx hb dX9_flowBest_0 rfl (lv_at hl 1 rfl) ?_
    refine lv_iconst (v := 0) hx hb dX9_flowBest_1 (by decide) ?_
    refine lv_bipush (v := 48) hx hb dX9_flowBest_2 (by decide) ?_
    refine r_det (r_S cx hw (kX9_wrongBy l hl9 g n 0 48) (va_cwS 3 hts (lw_S q1318 q1319 q94 q1320) rfl rfl rfl (by decide +kernel) ⟨Nat.le_of_ble_eq_true rfl, Nat.le_of_ble_eq_true rfl⟩) [] rfl rfl rfl hl.1 rfl (Nat.le_of_ble_eq_true rfl) dX9_flowBest_4 ⟨Nat.le_of_ble_eq_true rfl, Nat.le_of_ble_eq_true rfl⟩) cx hw [] rfl rfl rfl (ws' := WM g a s m im wa L R rf nu hi lm rn pl sd) (rfl) (fun H locs hw => ?_)
    refine W.eq (g2 := F0 m9 7 ls [.int (wrF n 0 48)]) rfl ?_
    refine lv_istore_n (lv' := [(2, .int (wrF n 0 48)), (0, .ref (a 0)), (1, .int n)]) hx hb dX9_flowBest_7 rfl hl (by decide) rfl (fun ls hl => ?_)
    refine lv_iload_n hx hb dX9_flowBest_8 rfl (lv_at hl 0 rfl) ?_
    refine lv_if_eq (tgt := 18) hx hb dX9_flowBest_9 (by decide) (fun c_9 => absurd c_9 hwr_n) (fun c_9 => ?_)
    refine lv_aload_n hx hb dX9_flowBest_12 rfl (lv_at hl 1 rfl) ?_
    refine lv_iload_n hx hb dX9_flowBest_13 rfl (lv_at hl 0 rfl) ?_
    refine r_det (r_V cx hw (kX9_no l hl9 g a s m im wa L R rf nu hi lm rn pl sd (wrF n 0 48) (wrF_ok hwr_n)) (cwV 1 hts (lw_V q1213 q1215 qs65 q94 q1216) rfl rfl rfl (by decide +kernel) ⟨Nat.le_of_ble_eq_true rfl, Nat.le_of_ble_eq_true rfl⟩) (r_recv hK hw (k := 0) (ci := 8) rfl rfl) [0, 1, 2, 3, 4, 5, 6, 7, 8] rfl rfl rfl hl.1 rfl (Nat.le_of_ble_eq_true rfl) dX9_flowBest_14 ⟨Nat.le_of_ble_eq_true rfl, Nat.le_of_ble_eq_true rfl⟩) cx hw [0, 1, 2, 3, 4, 5, 6, 7, 8] rfl rfl rfl (ws' := WM g a s m im wa L R (rfU rf (wrF n 0 48)) nu hi lm rn pl sd) (rfl) (fun H locs hw => ?_)
    refine W.eq (g2 := F0 m9 17 ls [.int (wrF n 0 48)]) rfl ?_
    exact r_iret cx hw (⟨_, by rw [ans_n hne, hW], by rw [rfA_n hne, hW]⟩) (Nat.le_of_ble_eq_true rfl) (Nat.le_of_ble_eq_true rfl) dX9_flowBest_17

set_option maxHeartbeats 4000000 in
set_option maxRecDepth 100000 in
theorem kX9_canBest (l : Launch) (hl9 : l.stackTraces = false) (g : GG) (a : Nat → Nat) (s m im wa L R rf nu : Nat → Int32) (hi lm rn pl sd : Int32) (hI : InvM s) (p n : Int32) : MC l yX9_canBest cX9_canBest 5 (some .int) 5 112 0 0 g [.ref (a 0), .int p, .int n] (WM g a s m im wa L R rf nu hi lm rn pl sd) (rtE (α := Nat → Int32) (some (.int (ans (wOf s p n 48) (vCnb s p (tN n))))) (fun x9 => WM g a s x9 im wa L R (rfA (wOf s p n 48) rf) nu hi lm rn pl sd)) (noX) := by
  by_cases hps_p : psB s p = true
  · skip
    obtain ⟨k, hk, rfl⟩ := psB_rng hI hps_p
    have hN := hI.1
    have ek : tN (nI k) = k := tN_nI (by omega)
    by_cases hwr_n : wrF n 0 48 = 0
    · skip
      obtain ⟨q, hq, rfl⟩ := nI_rng (M := 48) (by decide) (Int32.le_trans (by decide) (wrF_0 hwr_n).1) (wrF_0 hwr_n).2
      have eq : tN (nI q) = q := tN_nI (by omega)
      have hW : wOf s (nI k) (nI q) 48 = 0 := by simp [wOf, hps_p, hwr_n]
      refine MC.of (by decide) (Nat.le_of_ble_eq_true rfl) ?_
      intro p9 e9 s9 m9 args9 below9 meth9 c9 A9 ls cx htab hw hl
      have hx := cx.1
      have hb := cx.2.1
      have hts := cx.2.2.2.2.1
      have hK := cx.2.2.2.2.2.2.2.1
      have hl : lv_has ls 5 [(0, .ref (a 0)), (1, .int (nI k)), (2, .int (nI q))] := hl
      have J : ∀ (n9 j : Nat) (mm : Nat → Int32), j ≤ 10 → 10 < n9 + j → vCnb s (nI k) q = ffV (fun v => ndB (upd s (5 + 7 * k + 2) (nI v)) (1 <<< (nI k &&& 31)) (q + 1)) (10 - j) j → ∀ (H : Heap) (locs : List Loc) (ls : Array Slot), WS g A9 s9.heap (WM g a s mm im wa L R rf nu hi lm rn pl sd) H locs → lv_has ls 5 [(0, .ref (a 0)), (1, .int (nI k)), (2, .int (nI q)), (4, .int (nI j))] → W p9 l e9 (rmC 5 112 0 0) s9 m9 args9 below9 meth9 c9 H locs 0 0 (vx_MQ below9 (PostA g A9 (rtE (α := Nat → Int32) (some (.int (ans (wOf s (nI k) (nI q) 48) (vCnb s (nI k) (tN (nI q)))))) (fun x9 => WM g a s x9 im wa L R (rfA (wOf s (nI k) (nI q) 48) rf) nu hi lm rn pl sd))) (PxA g A9 (pxR (noX))) args9 s9 0 0 A9) (F0 m9 33 ls []) := by
        intro n9
        induction n9 with
        | zero => intro j mm hj hk9; exact absurd hk9 (by omega)
        | succ n9 ih_J =>
          intro j mm hj hk9 hv H locs ls hw hl
          refine lv_iload hx hb dX9_canBest_33 (lv_at hl 3 rfl) ?_
          refine lv_bipush (v := 9) hx hb dX9_canBest_35 (by decide) ?_
          refine lv_icmp_gt (tgt := 83) hx hb dX9_canBest_37 (by decide) (fun c_37 => ?_) (fun c_37 => ?_)
          · skip
            have c_37 : 9 < j := (nI_ltI (a := 9) (b := j) (by omega) (by omega)).mp c_37
            refine lv_bipush (v := (-9)) hx hb dX9_canBest_83 (by decide) ?_
            exact r_iret cx hw (⟨_, by rw [hW, ans_0, eq, hv, ffV_e (by omega)], by rw [hW, rfA_0]⟩) (Nat.le_of_ble_eq_true rfl) (Nat.le_of_ble_eq_true rfl) dX9_canBest_85
          · skip
            have c_37 : j ≤ 9 := Nat.not_lt.mp (fun h9 => c_37 ((nI_ltI (a := 9) (b := j) (by omega) (by omega)).mpr h9))
            refine lv_aload_n hx hb dX9_canBest_40 rfl (lv_at hl 0 rfl) ?_
            refine r_get cx hw in_X9 0 (ci := 8) (T := TX9) (N := 13) rfl rfl 0 (by decide) q1169 (fun _ h9 => h9) rfl dX9_canBest_41 ?_
            refine lv_aload_n hx hb dX9_canBest_44 rfl (lv_at hl 0 rfl) ?_
            refine r_get cx hw in_X9 0 (ci := 8) (T := TX9) (N := 13) rfl rfl 1 (by decide) q1170 (fun _ h9 => h9) rfl dX9_canBest_45 ?_
            refine r_det (r_S cx hw (kX9_copies l hl9 g (a 1) (a 2) s mm) (va_cwS 2 hts (lw_S q1243 q1244 q94 q1245) rfl rfl rfl (by decide +kernel) ⟨Nat.le_of_ble_eq_true rfl, Nat.le_of_ble_eq_true rfl⟩) [1, 2] rfl rfl rfl hl.1 rfl (Nat.le_of_ble_eq_true rfl) dX9_canBest_48 ⟨Nat.le_of_ble_eq_true rfl, Nat.le_of_ble_eq_true rfl⟩) cx hw [1, 2] rfl rfl rfl (ws' := WM g a s s im wa L R rf nu hi lm rn pl sd) (rfl) (fun H locs hw => ?_)
            refine W.eq (g2 := F0 m9 51 ls []) rfl ?_
            refine lv_aload_n hx hb dX9_canBest_51 rfl (lv_at hl 0 rfl) ?_
            refine r_get cx hw in_X9 0 (ci := 8) (T := TX9) (N := 13) rfl rfl 1 (by decide) q1170 (fun _ h9 => h9) rfl dX9_canBest_52 ?_
            refine lv_iload_n hx hb dX9_canBest_55 rfl (lv_at hl 1 rfl) ?_
            refine lv_iconst (v := 2) hx hb dX9_canBest_56 (by decide) ?_
            refine r_det (r_S cx hw (kX9_of l hl9 g k 2) (va_cwS 2 hts (lw_S q1254 q1255 q94 q1256) rfl rfl rfl (by decide +kernel) ⟨Nat.le_of_ble_eq_true rfl, Nat.le_of_ble_eq_true rfl⟩) [] rfl rfl rfl hl.1 rfl (Nat.le_of_ble_eq_true rfl) dX9_canBest_57 ⟨Nat.le_of_ble_eq_true rfl, Nat.le_of_ble_eq_true rfl⟩) cx hw [] rfl rfl rfl (ws' := WM g a s s im wa L R rf nu hi lm rn pl sd) (rfl) (fun H locs hw => ?_)
            refine W.eq (g2 := F0 m9 60 ls [.int (nI (5 + 7 * k + 2)), .ref (a 2)]) rfl ?_
            refine lv_iload hx hb dX9_canBest_60 (lv_at hl 3 rfl) ?_
            refine r_iast cx hw 2 rfl (5 + 7 * k + 2) rfl (by omega) (Nat.le_of_ble_eq_true rfl) dX9_canBest_62 (fun H locs hw => ?_)
            have hw : WS g A9 s9.heap (WM g a s (upd s (5 + 7 * k + 2) (nI j)) im wa L R rf nu hi lm rn pl sd) H locs := hw
            refine lv_aload_n hx hb dX9_canBest_63 rfl (lv_at hl 0 rfl) ?_
            refine lv_iconst (v := 1) hx hb dX9_canBest_64 (by decide) ?_
            refine lv_iload_n hx hb dX9_canBest_65 rfl (lv_at hl 1 rfl) ?_
            refine lv_ishl hx hb dX9_canBest_66 ?_
            refine lv_iload_n hx hb dX9_canBest_67 rfl (lv_at hl 2 rfl) ?_
            refine r_detE (α := Nat → Int32) (r_V cx hw (kX9_isNoneDry l hl9 g a s (upd s (5 + 7 * k + 2) (nI j)) im wa L R rf nu hi lm rn pl sd (InvM_upd hI (by omega) (fun j => by omega)) ((1 : Int32) <<< ((nI k) &&& 31)) q (by omega)) (cwV 2 hts (lw_V q1381 q1383 qs79 q94 q1384) rfl rfl rfl (by decide +kernel) ⟨Nat.le_of_ble_eq_true rfl, Nat.le_of_ble_eq_true rfl⟩) (r_recv hK hw (k := 0) (ci := 8) rfl rfl) [0, 1, 2, 3, 4, 5, 6, 7, 8] rfl rfl rfl hl.1 rfl (Nat.le_of_ble_eq_true rfl) dX9_canBest_68 ⟨Nat.le_of_ble_eq_true rfl, Nat.le_of_ble_eq_true rfl⟩) cx hw [0, 1, 2, 3, 4, 5, 6, 7, 8] rfl rfl (fun _ => rfl) (ws' := fun x9 => WM g a s x9 im wa L R rf nu hi lm rn pl sd) (fun _ => rfl) (fun mm_2 H locs hw => ?_)
            refine W.eq (g2 := F0 m9 71 ls [.int (bI (ndB (upd s (5 + 7 * k + 2) (nI j)) ((1 : Int32) <<< ((nI k) &&& 31)) (q + 1)))]) rfl ?_
            have hw : WS g A9 s9.heap (WM g a s mm_2 im wa L R rf nu hi lm rn pl sd) H locs := hw
            refine lv_if_eq (tgt := 77) hx hb dX9_canBest_71 (by decide) (fun c_71 => ?_) (fun c_71 => ?_)
            · skip
              have c_71 := bI_e0 c_71
              refine lv_iinc (v := nI (j + 1)) (lv' := [(4, .int (nI (j + 1))), (0, .ref (a 0)), (1, .int (nI k)), (2, .int (nI q))]) hx hb dX9_canBest_77 hl (k := 3) rfl (nI_1 j) (by decide) rfl (fun ls hl => ?_)
              refine lv_goto (tgt := 33) hx hb dX9_canBest_80 (by decide) ?_
              exact ih_J (j + 1) mm_2 (by omega) (by omega) (hv.trans (ffV_f (by omega) c_71)) _ _ _ (hw) (lv_sub hl [1, 2, 3, 0] rfl)
            · skip
              have c_71 := bI_n0 c_71
              refine lv_iload hx hb dX9_canBest_74 (lv_at hl 3 rfl) ?_
              exact r_iret cx hw (⟨_, by rw [hW, ans_0, eq, hv, ffV_t (c := fun v => ndB (upd s (5 + 7 * k + 2) (nI v)) (1 <<< (nI k &&& 31)) (q + 1)) (j := j) (by omega) c_71], by rw [hW, rfA_0]⟩) (Nat.le_of_ble_eq_true rfl) (Nat.le_of_ble_eq_true rfl) dX9_canBest_76
      refine lv_aload_n hx hb dX9_canBest_0 rfl (lv_at hl 0 rfl) ?_
      refine lv_iload_n hx hb dX9_canBest_1 rfl (lv_at hl 1 rfl) ?_
      refine r_det (r_V cx hw (kX9_isPerson l hl9 g a s m im wa L R rf nu hi lm rn pl sd (nI k)) (cwV 1 hts (lw_V q1257 q1259 qs72 q94 q1260) rfl rfl rfl (by decide +kernel) ⟨Nat.le_of_ble_eq_true rfl, Nat.le_of_ble_eq_true rfl⟩) (r_recv hK hw (k := 0) (ci := 8) rfl rfl) [0, 1, 2, 3, 4, 5, 6, 7, 8] rfl rfl rfl hl.1 rfl (Nat.le_of_ble_eq_true rfl) dX9_canBest_2 ⟨Nat.le_of_ble_eq_true rfl, Nat.le_of_ble_eq_true rfl⟩) cx hw [0, 1, 2, 3, 4, 5, 6, 7, 8] rfl rfl rfl (ws' := WM g a s m im wa L R rf nu hi lm rn pl sd) (rfl) (fun H locs hw => ?_)
      refine W.eq (g2 := F0 m9 5 ls [.int (bI (psB s (nI k)))]) rfl ?_
      refine lv_if_eq (tgt := 18) hx hb dX9_canBest_5 (by decide) (fun c_5 => absurd c_5 (by rw [hps_p]; decide)) (fun c_5 => ?_)
      refine lv_iload_n hx hb dX9_canBest_8 rfl (lv_at hl 2 rfl) ?_
      refine lv_iconst (v := 0) hx hb dX9_canBest_9 (by decide) ?_
      refine lv_bipush (v := 48) hx hb dX9_canBest_10 (by decide) ?_
      refine r_det (r_S cx hw (kX9_wrongBy l hl9 g (nI q) 0 48) (va_cwS 3 hts (lw_S q1318 q1319 q94 q1320) rfl rfl rfl (by decide +kernel) ⟨Nat.le_of_ble_eq_true rfl, Nat.le_of_ble_eq_true rfl⟩) [] rfl rfl rfl hl.1 rfl (Nat.le_of_ble_eq_true rfl) dX9_canBest_12 ⟨Nat.le_of_ble_eq_true rfl, Nat.le_of_ble_eq_true rfl⟩) cx hw [] rfl rfl rfl (ws' := WM g a s m im wa L R rf nu hi lm rn pl sd) (rfl) (fun H locs hw => ?_)
      refine W.eq (g2 := F0 m9 15 ls [.int (wrF (nI q) 0 48)]) rfl ?_
      refine lv_goto (tgt := 19) hx hb dX9_canBest_15 (by decide) ?_
      refine lv_istore_n (lv' := [(3, .int (wrF (nI q) 0 48)), (0, .ref (a 0)), (1, .int (nI k)), (2, .int (nI q))]) hx hb dX9_canBest_19 rfl hl (by decide) rfl (fun ls hl => ?_)
      refine lv_iload_n hx hb dX9_canBest_20 rfl (lv_at hl 0 rfl) ?_
      refine lv_if_eq (tgt := 30) hx hb dX9_canBest_21 (by decide) (fun c_21 => ?_) (fun c_21 => absurd hwr_n c_21)
      refine lv_iconst (v := 0) hx hb dX9_canBest_30 (by decide) ?_
      refine lv_istore (lv' := [(4, .int 0), (3, .int (wrF (nI q) 0 48)), (0, .ref (a 0)), (1, .int (nI k)), (2, .int (nI q))]) hx hb dX9_canBest_31 hl (by decide) rfl (fun ls hl => ?_)
      exact J (10 + 1) 0 m (by omega) (by omega) (by rw [vCnb, ek]) _ _ _ (hw) (lv_sub hl [2, 3, 4, 0] rfl)
    · skip
      have hW : wOf s (nI k) n 48 = wrF n 0 48 := by simp [wOf, hps_p, hwr_n]
      have hne : ¬ wOf s (nI k) n 48 = 0 := by rw [hW]; exact hwr_n
      refine MC.of (by decide) (Nat.le_of_ble_eq_true rfl) ?_
      intro p9 e9 s9 m9 args9 below9 meth9 c9 A9 ls cx htab hw hl
      have hx := cx.1
      have hb := cx.2.1
      have hts := cx.2.2.2.2.1
      have hK := cx.2.2.2.2.2.2.2.1
      have hl : lv_has ls 5 [(0, .ref (a 0)), (1, .int (nI k)), (2, .int n)] := hl
      refine lv_aload_n hx hb dX9_canBest_0 rfl (lv_at hl 0 rfl) ?_
      refine lv_iload_n hx hb dX9_canBest_1 rfl (lv_at hl 1 rfl) ?_
      refine r_det (r_V cx hw (kX9_isPerson l hl9 g a s m im wa L R rf nu hi lm rn pl sd (nI k)) (cwV 1 hts (lw_V q1257 q1259 qs72 q94 q1260) rfl rfl rfl (by decide +kernel) ⟨Nat.le_of_ble_eq_true rfl, Nat.le_of_ble_eq_true rfl⟩) (r_recv hK hw (k := 0) (ci := 8) rfl rfl) [0, 1, 2, 3, 4, 5, 6, 7, 8] rfl rfl rfl hl.1 rfl (Nat.le_of_ble_eq_true rfl) dX9_canBest_2 ⟨Nat.le_of_ble_eq_true rfl, Nat.le_of_ble_eq_true rfl⟩) cx hw [0, 1, 2, 3, 4, 5, 6, 7, 8] rfl rfl rfl (ws' := WM g a s m im wa L R rf nu hi lm rn pl sd) (rfl) (fun H locs hw => ?_)
      refine W.eq (g2 := F0 m9 5 ls [.int (bI (psB s (nI k)))]) rfl ?_
      refine lv_if_eq (tgt := 18) hx hb dX9_canBest_5 (by decide) (fun c_5 => absurd c_5 (by rw [hps_p]; decide)) (fun c_5 => ?_)
      refine lv_iload_n hx hb dX9_canBest_8 rfl (lv_at hl 2 rfl) ?_
      refine lv_iconst (v := 0) hx hb dX9_canBest_9 (by decide) ?_
      refine lv_bipush (v := 48) hx hb dX9_canBest_10 (by decide) ?_
      refine r_det (r_S cx hw (kX9_wrongBy l hl9 g n 0 48) (va_cwS 3 hts (lw_S q1318 q1319 q94 q1320) rfl rfl rfl (by decide +kernel) ⟨Nat.le_of_ble_eq_true rfl, Nat.le_of_ble_eq_true rfl⟩) [] rfl rfl rfl hl.1 rfl (Nat.le_of_ble_eq_true rfl) dX9_canBest_12 ⟨Nat.le_of_ble_eq_true rfl, Nat.le_of_ble_eq_true rfl⟩) cx hw [] rfl rfl rfl (ws' := WM g a s m im wa L R rf nu hi lm rn pl sd) (rfl) (fun H locs hw => ?_)
      refine W.eq (g2 := F0 m9 15 ls [.int (wrF n 0 48)]) rfl ?_
      refine lv_goto (tgt := 19) hx hb dX9_canBest_15 (by decide) ?_
      refine lv_istore_n (lv' := [(3, .int (wrF n 0 48)), (0, .ref (a 0)), (1, .int (nI k)), (2, .int n)]) hx hb dX9_canBest_19 rfl hl (by decide) rfl (fun ls hl => ?_)
      refine lv_iload_n hx hb dX9_canBest_20 rfl (lv_at hl 0 rfl) ?_
      refine lv_if_eq (tgt := 30) hx hb dX9_canBest_21 (by decide) (fun c_21 => absurd c_21 hwr_n) (fun c_21 => ?_)
      refine lv_aload_n hx hb dX9_canBest_24 rfl (lv_at hl 1 rfl) ?_
      refine lv_iload_n hx hb dX9_canBest_25 rfl (lv_at hl 0 rfl) ?_
      refine r_det (r_V cx hw (kX9_no l hl9 g a s m im wa L R rf nu hi lm rn pl sd (wrF n 0 48) (wrF_ok hwr_n)) (cwV 1 hts (lw_V q1213 q1215 qs65 q94 q1216) rfl rfl rfl (by decide +kernel) ⟨Nat.le_of_ble_eq_true rfl, Nat.le_of_ble_eq_true rfl⟩) (r_recv hK hw (k := 0) (ci := 8) rfl rfl) [0, 1, 2, 3, 4, 5, 6, 7, 8] rfl rfl rfl hl.1 rfl (Nat.le_of_ble_eq_true rfl) dX9_canBest_26 ⟨Nat.le_of_ble_eq_true rfl, Nat.le_of_ble_eq_true rfl⟩) cx hw [0, 1, 2, 3, 4, 5, 6, 7, 8] rfl rfl rfl (ws' := WM g a s m im wa L R (rfU rf (wrF n 0 48)) nu hi lm rn pl sd) (rfl) (fun H locs hw => ?_)
      refine W.eq (g2 := F0 m9 29 ls [.int (wrF n 0 48)]) rfl ?_
      exact r_iret cx hw (⟨_, by rw [ans_n hne, hW], by rw [rfA_n hne, hW]⟩) (Nat.le_of_ble_eq_true rfl) (Nat.le_of_ble_eq_true rfl) dX9_canBest_29
  · skip
    have hps_p : psB s p = false := by simpa using hps_p
    have hW : wOf s p n 48 = -1 := by simp [wOf, hps_p]
    have hne : ¬ wOf s p n 48 = 0 := by rw [hW]; decide
    refine MC.of (by decide) (Nat.le_of_ble_eq_true rfl) ?_
    intro p9 e9 s9 m9 args9 below9 meth9 c9 A9 ls cx htab hw hl
    have hx := cx.1
    have hb := cx.2.1
    have hts := cx.2.2.2.2.1
    have hK := cx.2.2.2.2.2.2.2.1
    have hl : lv_has ls 5 [(0, .ref (a 0)), (1, .int p), (2, .int n)] := hl
    refine lv_aload_n hx hb dX9_canBest_0 rfl (lv_at hl 0 rfl) ?_
    refine lv_iload_n hx hb dX9_canBest_1 rfl (lv_at hl 1 rfl) ?_
    refine r_det (r_V cx hw (kX9_isPerson l hl9 g a s m im wa L R rf nu hi lm rn pl sd p) (cwV 1 hts (lw_V q1257 q1259 qs72 q94 q1260) rfl rfl rfl (by decide +kernel) ⟨Nat.le_of_ble_eq_true rfl, Nat.le_of_ble_eq_true rfl⟩) (r_recv hK hw (k := 0) (ci := 8) rfl rfl) [0, 1, 2, 3, 4, 5, 6, 7, 8] rfl rfl rfl hl.1 rfl (Nat.le_of_ble_eq_true rfl) dX9_canBest_2 ⟨Nat.le_of_ble_eq_true rfl, Nat.le_of_ble_eq_true rfl⟩) cx hw [0, 1, 2, 3, 4, 5, 6, 7, 8] rfl rfl rfl (ws' := WM g a s m im wa L R rf nu hi lm rn pl sd) (rfl) (fun H locs hw => ?_)
    refine W.eq (g2 := F0 m9 5 ls [.int (bI (psB s p))]) rfl ?_
    refine lv_if_eq (tgt := 18) hx hb dX9_canBest_5 (by decide) (fun c_5 => ?_) (fun c_5 => absurd c_5 (by rw [hps_p]; decide))
    refine lv_iconst (v := (-1)) hx hb dX9_canBest_18 (by decide) ?_
    refine lv_istore_n (lv' := [(3, .int (-1)), (0, .ref (a 0)), (1, .int p), (2, .int n)]) hx hb dX9_canBest_19 rfl hl (by decide) rfl (fun ls hl => ?_)
    refine lv_iload_n hx hb dX9_canBest_20 rfl (lv_at hl 0 rfl) ?_
    refine lv_if_eq (tgt := 30) hx hb dX9_canBest_21 (by decide) (fun c_21 => absurd c_21 (by decide)) (fun c_21 => ?_)
    refine lv_aload_n hx hb dX9_canBest_24 rfl (lv_at hl 1 rfl) ?_
    refine lv_iload_n hx hb dX9_canBest_25 rfl (lv_at hl 0 rfl) ?_
    refine r_det (r_V cx hw (kX9_no l hl9 g a s m im wa L R rf nu hi lm rn pl sd (-1) (by unfold okC; decide)) (cwV 1 hts (lw_V q1213 q1215 qs65 q94 q1216) rfl rfl rfl (by decide +kernel) ⟨Nat.le_of_ble_eq_true rfl, Nat.le_of_ble_eq_true rfl⟩) (r_recv hK hw (k := 0) (ci := 8) rfl rfl) [0, 1, 2, 3, 4, 5, 6, 7, 8] rfl rfl rfl hl.1 rfl (Nat.le_of_ble_eq_true rfl) dX9_canBest_26 ⟨Nat.le_of_ble_eq_true rfl, Nat.le_of_ble_eq_true rfl⟩) cx hw [0, 1, 2, 3, 4, 5, 6, 7, 8] rfl rfl rfl (ws' := WM g a s m im wa L R (rfU rf (-1)) nu hi lm rn pl sd) (rfl) (fun H locs hw => ?_)
    refine W.eq (g2 := F0 m9 29 ls [.int (-1)]) rfl ?_
    exact r_iret cx hw (⟨_, by rw [ans_n hne, hW], by rw [rfA_n hne, hW]⟩) (Nat.le_of_ble_eq_true rfl) (Nat.le_of_ble_eq_true rfl) dX9_canBest_29

set_option maxHeartbeats 4000000 in
set_option maxRecDepth 100000 in
theorem kX9_then (l : Launch) (hl9 : l.stackTraces = false) (g : GG) (a : Nat → Nat) (s m im wa L R rf nu : Nat → Int32) (hi lm rn pl sd : Int32) (hI : InvM s) (n w9 : Int32) : MC l yX9_then cX9_then 4 (some .int) 6 132 0 0 g [.ref (a 0), .int n, .int w9] (WM g a s m im wa L R rf nu hi lm rn pl sd) (rtE (α := Nat → Int32) (some (.int (ans (wThn n w9) (vThn (hoursF s (tN n)) w9)))) (fun x9 => WM g a s x9 im wa L R (rfA (wThn n w9) rf) nu hi lm rn pl sd)) (noX) := by
  by_cases hwr_n : wrF n 0 60 = 0
  · skip
    obtain ⟨q, hq, rfl⟩ := nI_rng (M := 60) (by decide) (Int32.le_trans (by decide) (wrF_0 hwr_n).1) (wrF_0 hwr_n).2
    have eq : tN (nI q) = q := tN_nI (by omega)
    by_cases hin_w9 : isInB w9 0 3 = true
    · skip
      have hW : wThn (nI q) w9 = 0 := by simp [wThn, hwr_n, hin_w9]
      refine MC.of (by decide) (Nat.le_of_ble_eq_true rfl) ?_
      intro p9 e9 s9 m9 args9 below9 meth9 c9 A9 ls cx htab hw hl
      have hx := cx.1
      have hb := cx.2.1
      have hts := cx.2.2.2.2.1
      have hK := cx.2.2.2.2.2.2.2.1
      have hl : lv_has ls 4 [(0, .ref (a 0)), (1, .int (nI q)), (2, .int w9)] := hl
      refine lv_iload_n hx hb dX9_then_0 rfl (lv_at hl 1 rfl) ?_
      refine lv_iconst (v := 0) hx hb dX9_then_1 (by decide) ?_
      refine lv_bipush (v := 60) hx hb dX9_then_2 (by decide) ?_
      refine r_det (r_S cx hw (kX9_wrongBy l hl9 g (nI q) 0 60) (va_cwS 3 hts (lw_S q1318 q1319 q94 q1320) rfl rfl rfl (by decide +kernel) ⟨Nat.le_of_ble_eq_true rfl, Nat.le_of_ble_eq_true rfl⟩) [] rfl rfl rfl hl.1 rfl (Nat.le_of_ble_eq_true rfl) dX9_then_4 ⟨Nat.le_of_ble_eq_true rfl, Nat.le_of_ble_eq_true rfl⟩) cx hw [] rfl rfl rfl (ws' := WM g a s m im wa L R rf nu hi lm rn pl sd) (rfl) (fun H locs hw => ?_)
      refine W.eq (g2 := F0 m9 7 ls [.int (wrF (nI q) 0 60)]) rfl ?_
      refine lv_istore_n (lv' := [(3, .int (wrF (nI q) 0 60)), (0, .ref (a 0)), (1, .int (nI q)), (2, .int w9)]) hx hb dX9_then_7 rfl hl (by decide) rfl (fun ls hl => ?_)
      refine lv_iload_n hx hb dX9_then_8 rfl (lv_at hl 0 rfl) ?_
      refine lv_if_ne (tgt := 24) hx hb dX9_then_9 (by decide) (fun c_9 => absurd hwr_n c_9) (fun c_9 => ?_)
      refine lv_iload_n hx hb dX9_then_12 rfl (lv_at hl 3 rfl) ?_
      refine lv_iconst (v := 0) hx hb dX9_then_13 (by decide) ?_
      refine lv_iconst (v := 3) hx hb dX9_then_14 (by decide) ?_
      refine r_det (r_S cx hw (kX9_isIn l hl9 g w9 0 3) (va_cwS 3 hts (lw_S q1240 q1241 q94 q1242) rfl rfl rfl (by decide +kernel) ⟨Nat.le_of_ble_eq_true rfl, Nat.le_of_ble_eq_true rfl⟩) [] rfl rfl rfl hl.1 rfl (Nat.le_of_ble_eq_true rfl) dX9_then_15 ⟨Nat.le_of_ble_eq_true rfl, Nat.le_of_ble_eq_true rfl⟩) cx hw [] rfl rfl rfl (ws' := WM g a s m im wa L R rf nu hi lm rn pl sd) (rfl) (fun H locs hw => ?_)
      refine W.eq (g2 := F0 m9 18 ls [.int (bI (isInB w9 0 3))]) rfl ?_
      refine lv_if_ne (tgt := 24) hx hb dX9_then_18 (by decide) (fun c_18 => ?_) (fun c_18 => absurd c_18 (by rw [hin_w9]; decide))
      refine lv_iload_n hx hb dX9_then_24 rfl (lv_at hl 0 rfl) ?_
      refine lv_if_eq (tgt := 34) hx hb dX9_then_25 (by decide) (fun c_25 => ?_) (fun c_25 => absurd hwr_n c_25)
      refine lv_aload_n hx hb dX9_then_34 rfl (lv_at hl 1 rfl) ?_
      refine lv_iload_n hx hb dX9_then_35 rfl (lv_at hl 2 rfl) ?_
      refine r_det (r_V cx hw (kX9_takes l hl9 g a s m im wa L R rf nu hi lm rn pl sd hI q (by omega)) (cwV 1 hts (lw_V q1349 q1351 qs76 q94 q1352) rfl rfl rfl (by decide +kernel) ⟨Nat.le_of_ble_eq_true rfl, Nat.le_of_ble_eq_true rfl⟩) (r_recv hK hw (k := 0) (ci := 8) rfl rfl) [0, 1, 2, 3, 4, 5, 6, 7, 8] rfl rfl rfl hl.1 rfl (Nat.le_of_ble_eq_true rfl) dX9_then_36 ⟨Nat.le_of_ble_eq_true rfl, Nat.le_of_ble_eq_true rfl⟩) cx hw [0, 1, 2, 3, 4, 5, 6, 7, 8] rfl rfl rfl (ws' := WM g a s (hoursF s q) im wa L R rf nu hi lm rn pl sd) (rfl) (fun H locs hw => ?_)
      refine W.eq (g2 := F0 m9 39 ls []) rfl ?_
      refine lv_iload_n hx hb dX9_then_39 rfl (lv_at hl 3 rfl) ?_
      refine lv_if_ne (tgt := 52) hx hb dX9_then_40 (by decide) (fun c_40 => ?_) (fun c_40 => ?_)
      · skip
        refine lv_iload_n hx hb dX9_then_52 rfl (lv_at hl 3 rfl) ?_
        refine lv_iconst (v := 1) hx hb dX9_then_53 (by decide) ?_
        refine lv_icmp_ne (tgt := 68) hx hb dX9_then_54 (by decide) (fun c_54 => ?_) (fun c_54 => ?_)
        · skip
          refine lv_iload_n hx hb dX9_then_68 rfl (lv_at hl 3 rfl) ?_
          refine lv_iconst (v := 2) hx hb dX9_then_69 (by decide) ?_
          refine lv_icmp_ne (tgt := 84) hx hb dX9_then_70 (by decide) (fun c_70 => ?_) (fun c_70 => ?_)
          · skip
            refine lv_aload_n hx hb dX9_then_84 rfl (lv_at hl 1 rfl) ?_
            refine r_get cx hw in_X9 0 (ci := 8) (T := TX9) (N := 13) rfl rfl 1 (by decide) q1170 (fun _ h9 => h9) rfl dX9_then_85 ?_
            refine r_det (r_S cx hw (kX9_allHave l hl9 g (a 2) (hoursF s q) (hI.hours q)) (va_cwS 1 hts (lw_S q1357 q1358 q94 q1359) rfl rfl rfl (by decide +kernel) ⟨Nat.le_of_ble_eq_true rfl, Nat.le_of_ble_eq_true rfl⟩) [2] rfl rfl rfl hl.1 rfl (Nat.le_of_ble_eq_true rfl) dX9_then_88 ⟨Nat.le_of_ble_eq_true rfl, Nat.le_of_ble_eq_true rfl⟩) cx hw [2] rfl rfl rfl (ws' := WM g a s (hoursF s q) im wa L R rf nu hi lm rn pl sd) (rfl) (fun H locs hw => ?_)
            refine W.eq (g2 := F0 m9 91 ls [.int (allF (hoursF s q))]) rfl ?_
            exact r_iret cx hw (⟨_, by rw [hW, ans_0, eq]; simp [vThn, c_40, c_54, c_70], by rw [hW, rfA_0]⟩) (Nat.le_of_ble_eq_true rfl) (Nat.le_of_ble_eq_true rfl) dX9_then_91
          · skip
            refine lv_aload_n hx hb dX9_then_73 rfl (lv_at hl 1 rfl) ?_
            refine r_get cx hw in_X9 0 (ci := 8) (T := TX9) (N := 13) rfl rfl 1 (by decide) q1170 (fun _ h9 => h9) rfl dX9_then_74 ?_
            refine lv_iconst (v := 5) hx hb dX9_then_77 (by decide) ?_
            refine r_det (r_S cx hw (kX9_flagged l hl9 g (a 2) (hoursF s q) (hI.hours q) 5 (by omega)) (va_cwS 2 hts (lw_S q1296 q1297 q94 q1298) rfl rfl rfl (by decide +kernel) ⟨Nat.le_of_ble_eq_true rfl, Nat.le_of_ble_eq_true rfl⟩) [2] rfl rfl rfl hl.1 rfl (Nat.le_of_ble_eq_true rfl) dX9_then_78 ⟨Nat.le_of_ble_eq_true rfl, Nat.le_of_ble_eq_true rfl⟩) cx hw [2] rfl rfl rfl (ws' := WM g a s (hoursF s q) im wa L R rf nu hi lm rn pl sd) (rfl) (fun H locs hw => ?_)
            refine W.eq (g2 := F0 m9 81 ls [.int (flgF (hoursF s q) 5)]) rfl ?_
            refine lv_goto (tgt := 91) hx hb dX9_then_81 (by decide) ?_
            exact r_iret cx hw (⟨_, by rw [hW, ans_0, eq]; simp [vThn, c_40, c_54, c_70], by rw [hW, rfA_0]⟩) (Nat.le_of_ble_eq_true rfl) (Nat.le_of_ble_eq_true rfl) dX9_then_91
        · skip
          refine lv_aload_n hx hb dX9_then_57 rfl (lv_at hl 1 rfl) ?_
          refine r_get cx hw in_X9 0 (ci := 8) (T := TX9) (N := 13) rfl rfl 1 (by decide) q1170 (fun _ h9 => h9) rfl dX9_then_58 ?_
          refine lv_iconst (v := 4) hx hb dX9_then_61 (by decide) ?_
          refine r_det (r_S cx hw (kX9_flagged l hl9 g (a 2) (hoursF s q) (hI.hours q) 4 (by omega)) (va_cwS 2 hts (lw_S q1296 q1297 q94 q1298) rfl rfl rfl (by decide +kernel) ⟨Nat.le_of_ble_eq_true rfl, Nat.le_of_ble_eq_true rfl⟩) [2] rfl rfl rfl hl.1 rfl (Nat.le_of_ble_eq_true rfl) dX9_then_62 ⟨Nat.le_of_ble_eq_true rfl, Nat.le_of_ble_eq_true rfl⟩) cx hw [2] rfl rfl rfl (ws' := WM g a s (hoursF s q) im wa L R rf nu hi lm rn pl sd) (rfl) (fun H locs hw => ?_)
          refine W.eq (g2 := F0 m9 65 ls [.int (flgF (hoursF s q) 4)]) rfl ?_
          refine lv_goto (tgt := 91) hx hb dX9_then_65 (by decide) ?_
          exact r_iret cx hw (⟨_, by rw [hW, ans_0, eq]; simp [vThn, c_40, c_54], by rw [hW, rfA_0]⟩) (Nat.le_of_ble_eq_true rfl) (Nat.le_of_ble_eq_true rfl) dX9_then_91
      · skip
        refine lv_aload_n hx hb dX9_then_43 rfl (lv_at hl 1 rfl) ?_
        refine r_get cx hw in_X9 0 (ci := 8) (T := TX9) (N := 13) rfl rfl 1 (by decide) q1170 (fun _ h9 => h9) rfl dX9_then_44 ?_
        refine lv_iconst (v := 2) hx hb dX9_then_47 (by decide) ?_
        refine r_iald cx hw 2 rfl 2 rfl (by omega) (Nat.le_of_ble_eq_true rfl) dX9_then_48 ?_
        refine lv_goto (tgt := 91) hx hb dX9_then_49 (by decide) ?_
        exact r_iret cx hw (⟨_, by rw [hW, ans_0, eq]; simp [vThn, c_40], by rw [hW, rfA_0]⟩) (Nat.le_of_ble_eq_true rfl) (Nat.le_of_ble_eq_true rfl) dX9_then_91
    · skip
      have hin_w9 : isInB w9 0 3 = false := by simpa using hin_w9
      have hW : wThn (nI q) w9 = -2 := by simp [wThn, hwr_n, hin_w9]
      have hne : ¬ wThn (nI q) w9 = 0 := by rw [hW]; decide
      refine MC.of (by decide) (Nat.le_of_ble_eq_true rfl) ?_
      intro p9 e9 s9 m9 args9 below9 meth9 c9 A9 ls cx htab hw hl
      have hx := cx.1
      have hb := cx.2.1
      have hts := cx.2.2.2.2.1
      have hK := cx.2.2.2.2.2.2.2.1
      have hl : lv_has ls 4 [(0, .ref (a 0)), (1, .int (nI q)), (2, .int w9)] := hl
      refine lv_iload_n hx hb dX9_then_0 rfl (lv_at hl 1 rfl) ?_
      refine lv_iconst (v := 0) hx hb dX9_then_1 (by decide) ?_
      refine lv_bipush (v := 60) hx hb dX9_then_2 (by decide) ?_
      refine r_det (r_S cx hw (kX9_wrongBy l hl9 g (nI q) 0 60) (va_cwS 3 hts (lw_S q1318 q1319 q94 q1320) rfl rfl rfl (by decide +kernel) ⟨Nat.le_of_ble_eq_true rfl, Nat.le_of_ble_eq_true rfl⟩) [] rfl rfl rfl hl.1 rfl (Nat.le_of_ble_eq_true rfl) dX9_then_4 ⟨Nat.le_of_ble_eq_true rfl, Nat.le_of_ble_eq_true rfl⟩) cx hw [] rfl rfl rfl (ws' := WM g a s m im wa L R rf nu hi lm rn pl sd) (rfl) (fun H locs hw => ?_)
      refine W.eq (g2 := F0 m9 7 ls [.int (wrF (nI q) 0 60)]) rfl ?_
      refine lv_istore_n (lv' := [(3, .int (wrF (nI q) 0 60)), (0, .ref (a 0)), (1, .int (nI q)), (2, .int w9)]) hx hb dX9_then_7 rfl hl (by decide) rfl (fun ls hl => ?_)
      refine lv_iload_n hx hb dX9_then_8 rfl (lv_at hl 0 rfl) ?_
      refine lv_if_ne (tgt := 24) hx hb dX9_then_9 (by decide) (fun c_9 => absurd hwr_n c_9) (fun c_9 => ?_)
      refine lv_iload_n hx hb dX9_then_12 rfl (lv_at hl 3 rfl) ?_
      refine lv_iconst (v := 0) hx hb dX9_then_13 (by decide) ?_
      refine lv_iconst (v := 3) hx hb dX9_then_14 (by decide) ?_
      refine r_det (r_S cx hw (kX9_isIn l hl9 g w9 0 3) (va_cwS 3 hts (lw_S q1240 q1241 q94 q1242) rfl rfl rfl (by decide +kernel) ⟨Nat.le_of_ble_eq_true rfl, Nat.le_of_ble_eq_true rfl⟩) [] rfl rfl rfl hl.1 rfl (Nat.le_of_ble_eq_true rfl) dX9_then_15 ⟨Nat.le_of_ble_eq_true rfl, Nat.le_of_ble_eq_true rfl⟩) cx hw [] rfl rfl rfl (ws' := WM g a s m im wa L R rf nu hi lm rn pl sd) (rfl) (fun H locs hw => ?_)
      refine W.eq (g2 := F0 m9 18 ls [.int (bI (isInB w9 0 3))]) rfl ?_
      refine lv_if_ne (tgt := 24) hx hb dX9_then_18 (by decide) (fun c_18 => absurd c_18 (by rw [hin_w9]; decide)) (fun c_18 => ?_)
      refine lv_bipush (v := (-2)) hx hb dX9_then_21 (by decide) ?_
      refine lv_istore_n (lv' := [(3, .int (-2)), (0, .ref (a 0)), (1, .int (nI q)), (2, .int w9)]) hx hb dX9_then_23 rfl hl (by decide) rfl (fun ls hl => ?_)
      refine lv_iload_n hx hb dX9_then_24 rfl (lv_at hl 0 rfl) ?_
      refine lv_if_eq (tgt := 34) hx hb dX9_then_25 (by decide) (fun c_25 => absurd c_25 (by decide)) (fun c_25 => ?_)
      refine lv_aload_n hx hb dX9_then_28 rfl (lv_at hl 1 rfl) ?_
      refine lv_iload_n hx hb dX9_then_29 rfl (lv_at hl 0 rfl) ?_
      refine r_det (r_V cx hw (kX9_no l hl9 g a s m im wa L R rf nu hi lm rn pl sd (-2) (by unfold okC; decide)) (cwV 1 hts (lw_V q1213 q1215 qs65 q94 q1216) rfl rfl rfl (by decide +kernel) ⟨Nat.le_of_ble_eq_true rfl, Nat.le_of_ble_eq_true rfl⟩) (r_recv hK hw (k := 0) (ci := 8) rfl rfl) [0, 1, 2, 3, 4, 5, 6, 7, 8] rfl rfl rfl hl.1 rfl (Nat.le_of_ble_eq_true rfl) dX9_then_30 ⟨Nat.le_of_ble_eq_true rfl, Nat.le_of_ble_eq_true rfl⟩) cx hw [0, 1, 2, 3, 4, 5, 6, 7, 8] rfl rfl rfl (ws' := WM g a s m im wa L R (rfU rf (-2)) nu hi lm rn pl sd) (rfl) (fun H locs hw => ?_)
      refine W.eq (g2 := F0 m9 33 ls [.int (-2)]) rfl ?_
      exact r_iret cx hw (⟨_, by rw [ans_n hne, hW], by rw [rfA_n hne, hW]⟩) (Nat.le_of_ble_eq_true rfl) (Nat.le_of_ble_eq_true rfl) dX9_then_33
  · skip
    have hW : wThn n w9 = wrF n 0 60 := by simp [wThn, hwr_n]
    have hne : ¬ wThn n w9 = 0 := by rw [hW]; exact hwr_n
    refine MC.of (by decide) (Nat.le_of_ble_eq_true rfl) ?_
    intro p9 e9 s9 m9 args9 below9 meth9 c9 A9 ls cx htab hw hl
    have hx := cx.1
    have hb := cx.2.1
    have hts := cx.2.2.2.2.1
    have hK := cx.2.2.2.2.2.2.2.1
    have hl : lv_has ls 4 [(0, .ref (a 0)), (1, .int n), (2, .int w9)] := hl
    refine lv_iload_n hx hb dX9_then_0 rfl (lv_at hl 1 rfl) ?_
    refine lv_iconst (v := 0) hx hb dX9_then_1 (by decide) ?_
    refine lv_bipush (v := 60) hx hb dX9_then_2 (by decide) ?_
    refine r_det (r_S cx hw (kX9_wrongBy l hl9 g n 0 60) (va_cwS 3 hts (lw_S q1318 q1319 q94 q1320) rfl rfl rfl (by decide +kernel) ⟨Nat.le_of_ble_eq_true rfl, Nat.le_of_ble_eq_true rfl⟩) [] rfl rfl rfl hl.1 rfl (Nat.le_of_ble_eq_true rfl) dX9_then_4 ⟨Nat.le_of_ble_eq_true rfl, Nat.le_of_ble_eq_true rfl⟩) cx hw [] rfl rfl rfl (ws' := WM g a s m im wa L R rf nu hi lm rn pl sd) (rfl) (fun H locs hw => ?_)
    refine W.eq (g2 := F0 m9 7 ls [.int (wrF n 0 60)]) rfl ?_
    refine lv_istore_n (lv' := [(3, .int (wrF n 0 60)), (0, .ref (a 0)), (1, .int n), (2, .int w9)]) hx hb dX9_then_7 rfl hl (by decide) rfl (fun ls hl => ?_)
    refine lv_iload_n hx hb dX9_then_8 rfl (lv_at hl 0 rfl) ?_
    refine lv_if_ne (tgt := 24) hx hb dX9_then_9 (by decide) (fun c_9 => ?_) (fun c_9 => absurd c_9 hwr_n)
    refine lv_iload_n hx hb dX9_then_24 rfl (lv_at hl 0 rfl) ?_
    refine lv_if_eq (tgt := 34) hx hb dX9_then_25 (by decide) (fun c_25 => absurd c_25 hwr_n) (fun c_25 => ?_)
    refine lv_aload_n hx hb dX9_then_28 rfl (lv_at hl 1 rfl) ?_
    refine lv_iload_n hx hb dX9_then_29 rfl (lv_at hl 0 rfl) ?_
    refine r_det (r_V cx hw (kX9_no l hl9 g a s m im wa L R rf nu hi lm rn pl sd (wrF n 0 60) (wrF_ok hwr_n)) (cwV 1 hts (lw_V q1213 q1215 qs65 q94 q1216) rfl rfl rfl (by decide +kernel) ⟨Nat.le_of_ble_eq_true rfl, Nat.le_of_ble_eq_true rfl⟩) (r_recv hK hw (k := 0) (ci := 8) rfl rfl) [0, 1, 2, 3, 4, 5, 6, 7, 8] rfl rfl rfl hl.1 rfl (Nat.le_of_ble_eq_true rfl) dX9_then_30 ⟨Nat.le_of_ble_eq_true rfl, Nat.le_of_ble_eq_true rfl⟩) cx hw [0, 1, 2, 3, 4, 5, 6, 7, 8] rfl rfl rfl (ws' := WM g a s m im wa L R (rfU rf (wrF n 0 60)) nu hi lm rn pl sd) (rfl) (fun H locs hw => ?_)
    refine W.eq (g2 := F0 m9 33 ls [.int (wrF n 0 60)]) rfl ?_
    exact r_iret cx hw (⟨_, by rw [ans_n hne, hW], by rw [rfA_n hne, hW]⟩) (Nat.le_of_ble_eq_true rfl) (Nat.le_of_ble_eq_true rfl) dX9_then_33
