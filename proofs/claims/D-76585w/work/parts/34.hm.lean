/-! the hill: its methods -/
set_option maxRecDepth 100000
set_option maxHeartbeats 4000000 in
set_option maxRecDepth 100000 in
theorem kX0_has (l : Launch) (hl9 : l.stackTraces = false) (g : GG) (b k : Int32) : MC l yX0_has cX0_has 2 (some .boolean) 0 0 0 0 g [.int b, .int k] [] (rt (some (.int (bI (hsB b k)))) []) (noX) := by
  refine MC.of (by decide) (Nat.le_of_ble_eq_true rfl) ?_
  intro p9 e9 s9 m9 args9 below9 meth9 c9 A9 ls cx htab hw hl
  have hx := cx.1
  have hb := cx.2.1
  have hts := cx.2.2.2.2.1
  have hK := cx.2.2.2.2.2.2.2.1
  have hl : lv_has ls 2 [(0, .int b), (1, .int k)] := hl
  refine lv_iload_n hx hb dX0_has_0 rfl (lv_at hl 0 rfl) ?_
  refine lv_iload_n hx hb dX0_has_1 rfl (lv_at hl 1 rfl) ?_
  refine lv_ishr hx hb dX0_has_2 ?_
  refine lv_iconst (v := 1) hx hb dX0_has_3 (by decide) ?_
  refine lv_iand hx hb dX0_has_4 ?_
  refine lv_iconst (v := 1) hx hb dX0_has_5 (by decide) ?_
  refine lv_icmp_ne (tgt := 13) hx hb dX0_has_6 (by decide) (fun c_6 => ?_) (fun c_6 => ?_)
  · skip
    refine lv_iconst (v := 0) hx hb dX0_has_13 (by decide) ?_
    exact r_zret (by decide) cx hw (⟨by simp [hsB, bI, c_6], rfl⟩) (Nat.le_of_ble_eq_true rfl) (Nat.le_of_ble_eq_true rfl) dX0_has_14
  · skip
    refine lv_iconst (v := 1) hx hb dX0_has_9 (by decide) ?_
    refine lv_goto (tgt := 14) hx hb dX0_has_10 (by decide) ?_
    exact r_zret (by decide) cx hw (⟨by simp [hsB, bI, c_6], rfl⟩) (Nat.le_of_ble_eq_true rfl) (Nat.le_of_ble_eq_true rfl) dX0_has_14

set_option maxHeartbeats 4000000 in
set_option maxRecDepth 100000 in
theorem kX8_speaksIn (l : Launch) (hl9 : l.stackTraces = false) (g : GG) (b q : Nat → Nat) (r : Nat → Int32) (z : Int32) (hI : InvX r) (p : Nat) (hp : p < nN r) : MC l yX8_speaksIn cX8_speaksIn 2 (some .int) 3 63 0 0 g [.ref (b 0), .int (nI p)] (HX g b q r z) (rt (some (.int (spI r p))) (HX g b q r z)) (noX) := by
  refine MC.of (by decide) (Nat.le_of_ble_eq_true rfl) ?_
  intro p9 e9 s9 m9 args9 below9 meth9 c9 A9 ls cx htab hw hl
  have hx := cx.1
  have hb := cx.2.1
  have hts := cx.2.2.2.2.1
  have hK := cx.2.2.2.2.2.2.2.1
  have hl : lv_has ls 2 [(0, .ref (b 0)), (1, .int (nI p))] := hl
  have hw : WS g A9 s9.heap (HG g b q (r 0) (flgF r 4) (flgF r 5) (r 2) (r 3) (r 1) (r 4) z (kdc q r) (colv r 1) (colv r 2) (colv r 3) (colv r 6)) s9.heap [] := hw
  have hN := hI.1.1
  refine lv_aload_n hx hb dX8_speaksIn_0 rfl (lv_at hl 0 rfl) ?_
  refine r_get cx hw in_X8 0 (ci := 1) (T := TX8) (N := 13) rfl rfl 11 (by decide) q205 (fun _ h9 => h9) rfl dX8_speaksIn_1 ?_
  refine lv_iload_n hx hb dX8_speaksIn_4 rfl (lv_at hl 1 rfl) ?_
  refine r_det (r_SN cx hw (kX0_has l hl9 g (r 4) (nI p)) (⟨r_cN 2 hts hK q632 q630 q85 (by decide +kernel) ⟨Nat.le_of_ble_eq_true rfl, Nat.le_of_ble_eq_true rfl⟩, hts _ q631, trivial⟩) [] rfl rfl rfl hl.1 rfl (Nat.le_of_ble_eq_true rfl) dX8_speaksIn_5 ⟨Nat.le_of_ble_eq_true rfl, Nat.le_of_ble_eq_true rfl⟩) cx hw [] rfl rfl rfl (ws' := HG g b q (r 0) (flgF r 4) (flgF r 5) (r 2) (r 3) (r 1) (r 4) z (kdc q r) (colv r 1) (colv r 2) (colv r 3) (colv r 6)) (rfl) (fun H locs hw => ?_)
  refine W.eq (g2 := F0 m9 8 ls [.int (bI (hsB (r 4) (nI p)))]) rfl ?_
  refine lv_if_eq (tgt := 16) hx hb dX8_speaksIn_8 (by decide) (fun c_8 => ?_) (fun c_8 => ?_)
  · skip
    have c_8 := bI_e0 c_8
    refine lv_aload_n hx hb dX8_speaksIn_16 rfl (lv_at hl 0 rfl) ?_
    refine r_get cx hw in_X8 0 (ci := 1) (T := TX8) (N := 13) rfl rfl 1 (by decide) q179 (fun _ h9 => h9) rfl dX8_speaksIn_17 ?_
    refine lv_iload_n hx hb dX8_speaksIn_20 rfl (lv_at hl 1 rfl) ?_
    refine r_aldK cx hw 1 rfl p rfl (by omega) (Nat.le_of_ble_eq_true rfl) (kdc_p hp) dX8_speaksIn_21 ?_
    refine lv_aload_n hx hb dX8_speaksIn_22 rfl (lv_at hl 0 rfl) ?_
    refine r_get cx hw in_X8 0 (ci := 1) (T := TX8) (N := 13) rfl rfl 2 (by decide) q181 (fun _ h9 => h9) rfl dX8_speaksIn_23 ?_
    refine lv_iload_n hx hb dX8_speaksIn_26 rfl (lv_at hl 1 rfl) ?_
    refine r_iald cx hw 2 rfl p rfl (by omega) (Nat.le_of_ble_eq_true rfl) dX8_speaksIn_27 ?_
    refine r_topi (x' := r (5 + 7 * p + 1)) (rfl) ?_
    have hr9_2 : ∀ k9 : Nat, k9 < 6 → vx_Run p9 l e9 (rmC 3 63 0 0) s9 m9 args9 below9 meth9 c9 H locs 0 0 0 0 (F0 m9 28 ls [.int (r (5 + 7 * p + 1)), .ref (q k9)]) [] (PostA g (va_A (KW q) H.size) (rt (some (.int (spB (nI k9) (r (5 + 7 * p + 1))))) (KW q)) (Value.ref (q k9) :: [.int (r (5 + 7 * p + 1))]).toArray) (PxA g (va_A (KW q) H.size) (pxR noX)) (va_A (KW q) H.size) := by
      intro k9 hk9
      match k9, hk9 with
      | 0, _ => exact r_U cx hw (kX2_speaksIn l hl9 g q 0 _ rfl rfl (r (5 + 7 * p + 1))) (va_cwA 1 hts (lw_U q633 q635 q642 q643 q87 q644) rfl rfl rfl (hK.2.1 _ q634 rfl) (by decide +kernel) ⟨Nat.le_of_ble_eq_true rfl, Nat.le_of_ble_eq_true rfl⟩) (r_recv hK hw (k := 6) (ci := 2) rfl rfl) [6, 7, 8, 9, 10, 11] rfl rfl rfl hl.1 rfl (Nat.le_of_ble_eq_true rfl) dX8_speaksIn_28 ⟨Nat.le_of_ble_eq_true rfl, Nat.le_of_ble_eq_true rfl⟩
      | 1, _ => exact r_U cx hw (kX3_speaksIn l hl9 g q 1 _ rfl rfl (r (5 + 7 * p + 1))) (va_cwA 1 hts (lw_U q633 q635 q655 q649 q88 q650) rfl rfl rfl (hK.2.1 _ q634 rfl) (by decide +kernel) ⟨Nat.le_of_ble_eq_true rfl, Nat.le_of_ble_eq_true rfl⟩) (r_recv hK hw (k := 7) (ci := 3) rfl rfl) [6, 7, 8, 9, 10, 11] rfl rfl rfl hl.1 rfl (Nat.le_of_ble_eq_true rfl) dX8_speaksIn_28 ⟨Nat.le_of_ble_eq_true rfl, Nat.le_of_ble_eq_true rfl⟩
      | 2, _ => exact r_U cx hw (kX4_speaksIn l hl9 g q 2 _ rfl rfl (r (5 + 7 * p + 1))) (va_cwA 1 hts (lw_U q633 q635 q654 q637 q89 q638) rfl rfl rfl (hK.2.1 _ q634 rfl) (by decide +kernel) ⟨Nat.le_of_ble_eq_true rfl, Nat.le_of_ble_eq_true rfl⟩) (r_recv hK hw (k := 8) (ci := 4) rfl rfl) [6, 7, 8, 9, 10, 11] rfl rfl rfl hl.1 rfl (Nat.le_of_ble_eq_true rfl) dX8_speaksIn_28 ⟨Nat.le_of_ble_eq_true rfl, Nat.le_of_ble_eq_true rfl⟩
      | 3, _ => exact r_U cx hw (kX5_speaksIn l hl9 g q 3 _ rfl rfl (r (5 + 7 * p + 1))) (va_cwA 1 hts (lw_U q633 q635 q639 q640 q90 q641) rfl rfl rfl (hK.2.1 _ q634 rfl) (by decide +kernel) ⟨Nat.le_of_ble_eq_true rfl, Nat.le_of_ble_eq_true rfl⟩) (r_recv hK hw (k := 9) (ci := 5) rfl rfl) [6, 7, 8, 9, 10, 11] rfl rfl rfl hl.1 rfl (Nat.le_of_ble_eq_true rfl) dX8_speaksIn_28 ⟨Nat.le_of_ble_eq_true rfl, Nat.le_of_ble_eq_true rfl⟩
      | 4, _ => exact r_U cx hw (kX6_speaksIn l hl9 g q 4 _ rfl rfl (r (5 + 7 * p + 1))) (va_cwA 1 hts (lw_U q633 q635 q645 q646 q91 q647) rfl rfl rfl (hK.2.1 _ q634 rfl) (by decide +kernel) ⟨Nat.le_of_ble_eq_true rfl, Nat.le_of_ble_eq_true rfl⟩) (r_recv hK hw (k := 10) (ci := 6) rfl rfl) [6, 7, 8, 9, 10, 11] rfl rfl rfl hl.1 rfl (Nat.le_of_ble_eq_true rfl) dX8_speaksIn_28 ⟨Nat.le_of_ble_eq_true rfl, Nat.le_of_ble_eq_true rfl⟩
      | 5, _ => exact r_U cx hw (kX4_speaksIn l hl9 g q 5 _ rfl rfl (r (5 + 7 * p + 1))) (va_cwA 1 hts (lw_U q633 q635 q636 q637 q89 q638) rfl rfl rfl (hK.2.1 _ q634 rfl) (by decide +kernel) ⟨Nat.le_of_ble_eq_true rfl, Nat.le_of_ble_eq_true rfl⟩) (r_recv hK hw (k := 11) (ci := 7) rfl rfl) [6, 7, 8, 9, 10, 11] rfl rfl rfl hl.1 rfl (Nat.le_of_ble_eq_true rfl) dX8_speaksIn_28 ⟨Nat.le_of_ble_eq_true rfl, Nat.le_of_ble_eq_true rfl⟩
      | n9 + 6, h9 => exact absurd h9 (by omega)
    refine r_det (hr9_2 (kN r p) (hI.kind hp).1) cx hw [6, 7, 8, 9, 10, 11] rfl rfl rfl (ws' := HG g b q (r 0) (flgF r 4) (flgF r 5) (r 2) (r 3) (r 1) (r 4) z (kdc q r) (colv r 1) (colv r 2) (colv r 3) (colv r 6)) rfl (fun H locs hw => ?_)
    refine W.eq (g2 := F0 m9 31 ls [.int (spB (nI (kN r p)) (r (5 + 7 * p + 1)))]) rfl ?_
    exact r_iret cx hw (⟨by rw [spI, if_neg (by rw [c_8]; decide), (hI.kind hp).2], rfl⟩) (Nat.le_of_ble_eq_true rfl) (Nat.le_of_ble_eq_true rfl) dX8_speaksIn_31
  · skip
    have c_8 := bI_n0 c_8
    refine lv_bipush (v := 12) hx hb dX8_speaksIn_11 (by decide) ?_
    refine lv_goto (tgt := 31) hx hb dX8_speaksIn_13 (by decide) ?_
    exact r_iret cx hw (⟨by rw [spI, if_pos c_8], rfl⟩) (Nat.le_of_ble_eq_true rfl) (Nat.le_of_ble_eq_true rfl) dX8_speaksIn_31

set_option maxHeartbeats 4000000 in
set_option maxRecDepth 100000 in
theorem kX8_give (l : Launch) (hl9 : l.stackTraces = false) (g : GG) (b q : Nat → Nat) (r : Nat → Int32) (z : Int32) (hI : InvX r) (p : Nat) (hp : p < nN r) (m : Int32) : MC l yX8_give cX8_give 4 none 1 21 0 0 g [.ref (b 0), .int (nI p), .int m] (HX g b q r z) (rt none (HX g b q (givX r p m) z)) (noX) := by
  refine MC.of (by decide) (Nat.le_of_ble_eq_true rfl) ?_
  intro p9 e9 s9 m9 args9 below9 meth9 c9 A9 ls cx htab hw hl
  have hx := cx.1
  have hb := cx.2.1
  have hts := cx.2.2.2.2.1
  have hK := cx.2.2.2.2.2.2.2.1
  have hl : lv_has ls 4 [(0, .ref (b 0)), (1, .int (nI p)), (2, .int m)] := hl
  have hw : WS g A9 s9.heap (HG g b q (r 0) (flgF r 4) (flgF r 5) (r 2) (r 3) (r 1) (r 4) z (kdc q r) (colv r 1) (colv r 2) (colv r 3) (colv r 6)) s9.heap [] := hw
  have hN := hI.1.1
  have hfr := (hI.1.2.2 p hp).1
  refine lv_aload_n hx hb dX8_give_0 rfl (lv_at hl 0 rfl) ?_
  refine r_get cx hw in_X8 0 (ci := 1) (T := TX8) (N := 13) rfl rfl 5 (by decide) q188 (fun _ h9 => h9) rfl dX8_give_1 ?_
  refine lv_iload_n hx hb dX8_give_4 rfl (lv_at hl 1 rfl) ?_
  refine r_iald cx hw 5 rfl p rfl (by omega) (Nat.le_of_ble_eq_true rfl) dX8_give_5 ?_
  refine r_topi (x' := nI (frN r p)) ((hI.1.2.2 p hp).2) ?_
  refine lv_istore_n (lv' := [(3, .int (nI (frN r p))), (0, .ref (b 0)), (1, .int (nI p)), (2, .int m)]) hx hb dX8_give_6 rfl hl (by decide) rfl (fun ls hl => ?_)
  refine lv_iload_n hx hb dX8_give_7 rfl (lv_at hl 0 rfl) ?_
  refine lv_iload_n hx hb dX8_give_8 rfl (lv_at hl 2 rfl) ?_
  refine lv_icmp_eq (tgt := 75) hx hb dX8_give_9 (by decide) (fun c_9 => ?_) (fun c_9 => ?_)
  · skip
    have c_9 : (frN r p) = p := (nI_eq (a := (frN r p)) (b := p) (by omega) (by omega)).mp c_9
    exact r_vret cx hw (⟨rfl, by rw [show givX r p m = r by unfold givX; rw [if_pos (by unfold givN; rw [decide_eq_true (show nI (frN r p) = nI p by rw [c_9])]; simp)]]; rfl⟩) (Nat.le_of_ble_eq_true rfl) (Nat.le_of_ble_eq_true rfl) dX8_give_75
  · skip
    have c_9 : ¬ (frN r p) = p := fun h9 => c_9 ((nI_eq (a := (frN r p)) (b := p) (by omega) (by omega)).mpr h9)
    refine lv_iload_n hx hb dX8_give_12 rfl (lv_at hl 0 rfl) ?_
    refine lv_aload_n hx hb dX8_give_13 rfl (lv_at hl 1 rfl) ?_
    refine r_get cx hw in_X8 0 (ci := 1) (T := TX8) (N := 13) rfl rfl 0 (by decide) q176 (fun _ h9 => h9) rfl dX8_give_14 ?_
    refine r_topi (x' := nI (nN r)) (hI.1.2.1) ?_
    refine lv_icmp_ge (tgt := 75) hx hb dX8_give_17 (by decide) (fun c_17 => ?_) (fun c_17 => ?_)
    · skip
      have c_17 : (nN r) ≤ (frN r p) := (nI_leI (a := (nN r)) (b := (frN r p)) (by omega) (by omega)).mp c_17
      exact r_vret cx hw (⟨rfl, by rw [show givX r p m = r by unfold givX; rw [if_pos (by unfold givN; rw [decide_eq_true (show r 0 ≤ nI (frN r p) by rw [hI.1.2.1]; exact (nI_leI (by omega) (by omega)).mpr c_17)]; simp)]]; rfl⟩) (Nat.le_of_ble_eq_true rfl) (Nat.le_of_ble_eq_true rfl) dX8_give_75
    · skip
      have c_17 : (frN r p) < (nN r) := Nat.not_le.mp (fun h9 => c_17 ((nI_leI (a := (nN r)) (b := (frN r p)) (by omega) (by omega)).mpr h9))
      refine lv_aload_n hx hb dX8_give_20 rfl (lv_at hl 1 rfl) ?_
      refine r_get cx hw in_X8 0 (ci := 1) (T := TX8) (N := 13) rfl rfl 6 (by decide) q192 (fun _ h9 => h9) rfl dX8_give_21 ?_
      refine lv_iload_n hx hb dX8_give_24 rfl (lv_at hl 0 rfl) ?_
      refine r_det (r_SN cx hw (kX0_has l hl9 g (flgF r 4) (nI (frN r p))) (⟨r_cN 2 hts hK q632 q630 q85 (by decide +kernel) ⟨Nat.le_of_ble_eq_true rfl, Nat.le_of_ble_eq_true rfl⟩, hts _ q631, trivial⟩) [] rfl rfl rfl hl.1 rfl (Nat.le_of_ble_eq_true rfl) dX8_give_25 ⟨Nat.le_of_ble_eq_true rfl, Nat.le_of_ble_eq_true rfl⟩) cx hw [] rfl rfl rfl (ws' := HG g b q (r 0) (flgF r 4) (flgF r 5) (r 2) (r 3) (r 1) (r 4) z (kdc q r) (colv r 1) (colv r 2) (colv r 3) (colv r 6)) (rfl) (fun H locs hw => ?_)
      refine W.eq (g2 := F0 m9 28 ls [.int (bI (hsB (flgF r 4) (nI (frN r p))))]) rfl ?_
      refine lv_if_eq (tgt := 75) hx hb dX8_give_28 (by decide) (fun c_28 => ?_) (fun c_28 => ?_)
      · skip
        have c_28 := bI_e0 c_28
        exact r_vret cx hw (⟨rfl, by rw [show givX r p m = r by unfold givX; rw [if_pos (by unfold givN; rw [decide_eq_true (flg_f hI (Or.inl rfl) c_17 c_28)]; simp)]]; rfl⟩) (Nat.le_of_ble_eq_true rfl) (Nat.le_of_ble_eq_true rfl) dX8_give_75
      · skip
        have c_28 := bI_n0 c_28
        refine lv_aload_n hx hb dX8_give_31 rfl (lv_at hl 1 rfl) ?_
        refine r_get cx hw in_X8 0 (ci := 1) (T := TX8) (N := 13) rfl rfl 4 (by decide) q185 (fun _ h9 => h9) rfl dX8_give_32 ?_
        refine lv_iload_n hx hb dX8_give_35 rfl (lv_at hl 0 rfl) ?_
        refine r_iald cx hw 4 rfl (frN r p) rfl (by omega) (Nat.le_of_ble_eq_true rfl) dX8_give_36 ?_
        refine r_topi (x' := r (5 + 7 * (frN r p) + 3)) (rfl) ?_
        refine lv_aload_n hx hb dX8_give_37 rfl (lv_at hl 1 rfl) ?_
        refine r_get cx hw in_X8 0 (ci := 1) (T := TX8) (N := 13) rfl rfl 4 (by decide) q185 (fun _ h9 => h9) rfl dX8_give_38 ?_
        refine lv_iload_n hx hb dX8_give_41 rfl (lv_at hl 2 rfl) ?_
        refine r_iald cx hw 4 rfl p rfl (by omega) (Nat.le_of_ble_eq_true rfl) dX8_give_42 ?_
        refine r_topi (x' := r (5 + 7 * p + 3)) (rfl) ?_
        refine lv_icmp_ge (tgt := 75) hx hb dX8_give_43 (by decide) (fun c_43 => ?_) (fun c_43 => ?_)
        · skip
          exact r_vret cx hw (⟨rfl, by rw [show givX r p m = r by unfold givX; rw [if_pos (by unfold givN; rw [decide_eq_true (c_43)]; simp)]]; rfl⟩) (Nat.le_of_ble_eq_true rfl) (Nat.le_of_ble_eq_true rfl) dX8_give_75
        · skip
          have e9_9 : ¬ nI (frN r p) = nI p := fun h9 => c_9 ((nI_eq (by omega) (by omega)).mp h9)
          have e9_17 : ¬ r 0 ≤ nI (frN r p) := by rw [hI.1.2.1]; exact fun h9 => absurd ((nI_leI (by omega) (by omega)).mp h9) (by omega)
          have e9_28 : ¬ r (5 + 7 * frN r p + 4) = 0 := by rw [flg_t hI (Or.inl rfl) c_17 c_28]; decide
          refine lv_aload_n hx hb dX8_give_46 rfl (lv_at hl 1 rfl) ?_
          refine r_get cx hw in_X8 0 (ci := 1) (T := TX8) (N := 13) rfl rfl 4 (by decide) q185 (fun _ h9 => h9) rfl dX8_give_47 ?_
          refine lv_iload_n hx hb dX8_give_50 rfl (lv_at hl 2 rfl) ?_
          refine lv_dup2_11 hx hb dX8_give_51 rfl rfl ?_
          refine r_iald cx hw 4 rfl p rfl (by omega) (Nat.le_of_ble_eq_true rfl) dX8_give_52 ?_
          refine r_topi (x' := r (5 + 7 * p + 3)) (rfl) ?_
          refine lv_iload_n hx hb dX8_give_53 rfl (lv_at hl 3 rfl) ?_
          refine lv_isub hx hb dX8_give_54 ?_
          refine r_iast cx hw 4 rfl p rfl (by omega) (Nat.le_of_ble_eq_true rfl) dX8_give_55 (fun H locs hw => ?_)
          have hw : WS g A9 s9.heap (HG g b q (r 0) (flgF r 4) (flgF r 5) (r 2) (r 3) (r 1) (r 4) z (kdc q r) (colv r 1) (colv r 2) (upd (colv r 3) p ((r (5 + 7 * p + 3)) - m)) (colv r 6)) H locs := hw
          refine lv_aload_n hx hb dX8_give_56 rfl (lv_at hl 1 rfl) ?_
          refine r_get cx hw in_X8 0 (ci := 1) (T := TX8) (N := 13) rfl rfl 4 (by decide) q185 (fun _ h9 => h9) rfl dX8_give_57 ?_
          refine lv_iload_n hx hb dX8_give_60 rfl (lv_at hl 0 rfl) ?_
          refine lv_bipush (v := 99) hx hb dX8_give_61 (by decide) ?_
          refine lv_aload_n hx hb dX8_give_63 rfl (lv_at hl 1 rfl) ?_
          refine r_get cx hw in_X8 0 (ci := 1) (T := TX8) (N := 13) rfl rfl 4 (by decide) q185 (fun _ h9 => h9) rfl dX8_give_64 ?_
          refine lv_iload_n hx hb dX8_give_67 rfl (lv_at hl 0 rfl) ?_
          refine r_iald cx hw 4 rfl (frN r p) rfl (by omega) (Nat.le_of_ble_eq_true rfl) dX8_give_68 ?_
          refine lv_iload_n hx hb dX8_give_69 rfl (lv_at hl 3 rfl) ?_
          refine lv_iadd hx hb dX8_give_70 ?_
          refine va_mmin hx hb (cx.2.2.1.trans hl.1.symm) cx.2.2.2.1 (hts _ q623) (hts _ q624) (hts _ q112) (hts _ q625) (Nat.le_of_ble_eq_true rfl) (Nat.le_of_ble_eq_true rfl) (Nat.le_of_ble_eq_true rfl) (Nat.le_of_ble_eq_true rfl) dX8_give_71 ?_
          refine r_topi (x' := minI 99 (((upd (colv r 3) p ((r (5 + 7 * p + 3)) - m)) (frN r p)) + m)) (rfl) ?_
          refine r_iast cx hw 4 rfl (frN r p) rfl (by omega) (Nat.le_of_ble_eq_true rfl) dX8_give_74 (fun H locs hw => ?_)
          have hw : WS g A9 s9.heap (HG g b q (r 0) (flgF r 4) (flgF r 5) (r 2) (r 3) (r 1) (r 4) z (kdc q r) (colv r 1) (colv r 2) (upd (upd (colv r 3) p ((r (5 + 7 * p + 3)) - m)) (frN r p) (minI 99 (((upd (colv r 3) p ((r (5 + 7 * p + 3)) - m)) (frN r p)) + m))) (colv r 6)) H locs := hw
          exact r_vret cx hw (⟨rfl, give_eq (by unfold givN; rw [decide_eq_false e9_9, decide_eq_false e9_17, decide_eq_false e9_28, decide_eq_false c_43]; decide)⟩) (Nat.le_of_ble_eq_true rfl) (Nat.le_of_ble_eq_true rfl) dX8_give_75

set_option maxHeartbeats 4000000 in
set_option maxRecDepth 100000 in
theorem kX8_draw (l : Launch) (hl9 : l.stackTraces = false) (g : GG) (b q : Nat → Nat) (r : Nat → Int32) (z : Int32) (hI : InvX r) (p : Nat) (hp : p < nN r) : MC l yX8_draw cX8_draw 4 none 2 44 0 0 g [.ref (b 0), .int (nI p)] (HX g b q r z) (rt none (HX g b q (drawF r p) z)) (noX) := by
  refine MC.of (by decide) (Nat.le_of_ble_eq_true rfl) ?_
  intro p9 e9 s9 m9 args9 below9 meth9 c9 A9 ls cx htab hw hl
  have hx := cx.1
  have hb := cx.2.1
  have hts := cx.2.2.2.2.1
  have hK := cx.2.2.2.2.2.2.2.1
  have hl : lv_has ls 4 [(0, .ref (b 0)), (1, .int (nI p))] := hl
  have hw : WS g A9 s9.heap (HG g b q (r 0) (flgF r 4) (flgF r 5) (r 2) (r 3) (r 1) (r 4) z (kdc q r) (colv r 1) (colv r 2) (colv r 3) (colv r 6)) s9.heap [] := hw
  have hN := hI.1.1
  refine lv_aload_n hx hb dX8_draw_0 rfl (lv_at hl 0 rfl) ?_
  refine r_get cx hw in_X8 0 (ci := 1) (T := TX8) (N := 13) rfl rfl 7 (by decide) q194 (fun _ h9 => h9) rfl dX8_draw_1 ?_
  refine lv_iload_n hx hb dX8_draw_4 rfl (lv_at hl 1 rfl) ?_
  refine r_det (r_SN cx hw (kX0_has l hl9 g (flgF r 5) (nI p)) (⟨r_cN 2 hts hK q632 q630 q85 (by decide +kernel) ⟨Nat.le_of_ble_eq_true rfl, Nat.le_of_ble_eq_true rfl⟩, hts _ q631, trivial⟩) [] rfl rfl rfl hl.1 rfl (Nat.le_of_ble_eq_true rfl) dX8_draw_5 ⟨Nat.le_of_ble_eq_true rfl, Nat.le_of_ble_eq_true rfl⟩) cx hw [] rfl rfl rfl (ws' := HG g b q (r 0) (flgF r 4) (flgF r 5) (r 2) (r 3) (r 1) (r 4) z (kdc q r) (colv r 1) (colv r 2) (colv r 3) (colv r 6)) (rfl) (fun H locs hw => ?_)
  refine W.eq (g2 := F0 m9 8 ls [.int (bI (hsB (flgF r 5) (nI p)))]) rfl ?_
  refine lv_if_ne (tgt := 60) hx hb dX8_draw_8 (by decide) (fun c_8 => ?_) (fun c_8 => ?_)
  · skip
    have c_8 := bI_n0 c_8
    have hm : mayD r p = false := by simp [mayD, flg_t hI (Or.inr rfl) hp c_8]
    refine lv_iconst (v := 0) hx hb dX8_draw_60 (by decide) ?_
    refine lv_istore_n (lv' := [(2, .int 0), (0, .ref (b 0)), (1, .int (nI p))]) hx hb dX8_draw_61 rfl hl (by decide) rfl (fun ls hl => ?_)
    refine lv_iload_n hx hb dX8_draw_62 rfl (lv_at hl 0 rfl) ?_
    refine lv_if_eq (tgt := 82) hx hb dX8_draw_63 (by decide) (fun c_63 => ?_) (fun c_63 => absurd c_63 (by decide))
    refine lv_iconst (v := 0) hx hb dX8_draw_82 (by decide) ?_
    refine lv_istore_n (lv' := [(3, .int 0), (2, .int 0), (0, .ref (b 0)), (1, .int (nI p))]) hx hb dX8_draw_83 rfl hl (by decide) rfl (fun ls hl => ?_)
    refine lv_iload_n hx hb dX8_draw_84 rfl (lv_at hl 0 rfl) ?_
    refine lv_if_le (tgt := 137) hx hb dX8_draw_85 (by decide) (fun c_85 => ?_) (fun c_85 => absurd c_85 (by decide))
    exact r_vret cx hw (⟨rfl, by rw [drawF_no hm]; rfl⟩) (Nat.le_of_ble_eq_true rfl) (Nat.le_of_ble_eq_true rfl) dX8_draw_137
  · skip
    have c_8 := bI_e0 c_8
    refine lv_aload_n hx hb dX8_draw_11 rfl (lv_at hl 0 rfl) ?_
    refine r_get cx hw in_X8 0 (ci := 1) (T := TX8) (N := 13) rfl rfl 6 (by decide) q192 (fun _ h9 => h9) rfl dX8_draw_12 ?_
    refine lv_iload_n hx hb dX8_draw_15 rfl (lv_at hl 1 rfl) ?_
    refine r_det (r_SN cx hw (kX0_has l hl9 g (flgF r 4) (nI p)) (⟨r_cN 2 hts hK q632 q630 q85 (by decide +kernel) ⟨Nat.le_of_ble_eq_true rfl, Nat.le_of_ble_eq_true rfl⟩, hts _ q631, trivial⟩) [] rfl rfl rfl hl.1 rfl (Nat.le_of_ble_eq_true rfl) dX8_draw_16 ⟨Nat.le_of_ble_eq_true rfl, Nat.le_of_ble_eq_true rfl⟩) cx hw [] rfl rfl rfl (ws' := HG g b q (r 0) (flgF r 4) (flgF r 5) (r 2) (r 3) (r 1) (r 4) z (kdc q r) (colv r 1) (colv r 2) (colv r 3) (colv r 6)) (rfl) (fun H locs hw => ?_)
    refine W.eq (g2 := F0 m9 19 ls [.int (bI (hsB (flgF r 4) (nI p)))]) rfl ?_
    refine lv_if_eq (tgt := 45) hx hb dX8_draw_19 (by decide) (fun c_19 => ?_) (fun c_19 => ?_)
    · skip
      have c_19 := bI_e0 c_19
      refine lv_aload_n hx hb dX8_draw_45 rfl (lv_at hl 0 rfl) ?_
      refine r_get cx hw in_X8 0 (ci := 1) (T := TX8) (N := 13) rfl rfl 4 (by decide) q185 (fun _ h9 => h9) rfl dX8_draw_46 ?_
      refine lv_iload_n hx hb dX8_draw_49 rfl (lv_at hl 1 rfl) ?_
      refine r_iald cx hw 4 rfl p rfl (by omega) (Nat.le_of_ble_eq_true rfl) dX8_draw_50 ?_
      refine r_topi (x' := r (5 + 7 * p + 3)) (rfl) ?_
      refine lv_bipush (v := 20) hx hb dX8_draw_51 (by decide) ?_
      refine lv_icmp_ge (tgt := 60) hx hb dX8_draw_53 (by decide) (fun c_53 => ?_) (fun c_53 => ?_)
      · skip
        have c_53N := Int32.not_lt.mpr c_53
        have hm : mayD r p = false := by simp [mayD, flg_f hI (Or.inr rfl) hp c_8, flg_f hI (Or.inl rfl) hp c_19, c_53, c_53N]
        refine lv_iconst (v := 0) hx hb dX8_draw_60 (by decide) ?_
        refine lv_istore_n (lv' := [(2, .int 0), (0, .ref (b 0)), (1, .int (nI p))]) hx hb dX8_draw_61 rfl hl (by decide) rfl (fun ls hl => ?_)
        refine lv_iload_n hx hb dX8_draw_62 rfl (lv_at hl 0 rfl) ?_
        refine lv_if_eq (tgt := 82) hx hb dX8_draw_63 (by decide) (fun c_63 => ?_) (fun c_63 => absurd c_63 (by decide))
        refine lv_iconst (v := 0) hx hb dX8_draw_82 (by decide) ?_
        refine lv_istore_n (lv' := [(3, .int 0), (2, .int 0), (0, .ref (b 0)), (1, .int (nI p))]) hx hb dX8_draw_83 rfl hl (by decide) rfl (fun ls hl => ?_)
        refine lv_iload_n hx hb dX8_draw_84 rfl (lv_at hl 0 rfl) ?_
        refine lv_if_le (tgt := 137) hx hb dX8_draw_85 (by decide) (fun c_85 => ?_) (fun c_85 => absurd c_85 (by decide))
        exact r_vret cx hw (⟨rfl, by rw [drawF_no hm]; rfl⟩) (Nat.le_of_ble_eq_true rfl) (Nat.le_of_ble_eq_true rfl) dX8_draw_137
      · skip
        have c_53N := Int32.not_le.mp c_53
        have hm : mayD r p = true := by simp [mayD, flg_f hI (Or.inr rfl) hp c_8, flg_f hI (Or.inl rfl) hp c_19, c_53, c_53N]
        refine lv_iconst (v := 1) hx hb dX8_draw_56 (by decide) ?_
        refine lv_goto (tgt := 61) hx hb dX8_draw_57 (by decide) ?_
        refine lv_istore_n (lv' := [(2, .int 1), (0, .ref (b 0)), (1, .int (nI p))]) hx hb dX8_draw_61 rfl hl (by decide) rfl (fun ls hl => ?_)
        refine lv_iload_n hx hb dX8_draw_62 rfl (lv_at hl 0 rfl) ?_
        refine lv_if_eq (tgt := 82) hx hb dX8_draw_63 (by decide) (fun c_63 => absurd c_63 (by decide)) (fun c_63 => ?_)
        refine lv_aload_n hx hb dX8_draw_66 rfl (lv_at hl 1 rfl) ?_
        refine r_get cx hw in_X8 0 (ci := 1) (T := TX8) (N := 13) rfl rfl 3 (by decide) q183 (fun _ h9 => h9) rfl dX8_draw_67 ?_
        refine lv_iload_n hx hb dX8_draw_70 rfl (lv_at hl 2 rfl) ?_
        refine r_iald cx hw 3 rfl p rfl (by omega) (Nat.le_of_ble_eq_true rfl) dX8_draw_71 ?_
        refine r_topi (x' := r (5 + 7 * p + 2)) (rfl) ?_
        refine lv_aload_n hx hb dX8_draw_72 rfl (lv_at hl 1 rfl) ?_
        refine r_get cx hw in_X8 0 (ci := 1) (T := TX8) (N := 13) rfl rfl 8 (by decide) q196 (fun _ h9 => h9) rfl dX8_draw_73 ?_
        refine va_mmin hx hb (cx.2.2.1.trans hl.1.symm) cx.2.2.2.1 (hts _ q623) (hts _ q624) (hts _ q112) (hts _ q625) (Nat.le_of_ble_eq_true rfl) (Nat.le_of_ble_eq_true rfl) (Nat.le_of_ble_eq_true rfl) (Nat.le_of_ble_eq_true rfl) dX8_draw_76 ?_
        refine r_topi (x' := minI (r (5 + 7 * p + 2)) (r 2)) (rfl) ?_
        refine r_topi (x' := leI (r (5 + 7 * p + 2)) (r 2)) (minI_leI _ _) ?_
        refine lv_goto (tgt := 83) hx hb dX8_draw_79 (by decide) ?_
        refine lv_istore_n (lv' := [(3, .int (leI (r (5 + 7 * p + 2)) (r 2))), (2, .int 1), (0, .ref (b 0)), (1, .int (nI p))]) hx hb dX8_draw_83 rfl hl (by decide) rfl (fun ls hl => ?_)
        refine lv_iload_n hx hb dX8_draw_84 rfl (lv_at hl 0 rfl) ?_
        refine lv_if_le (tgt := 137) hx hb dX8_draw_85 (by decide) (fun c_85 => ?_) (fun c_85 => ?_)
        · skip
          exact r_vret cx hw (⟨rfl, by rw [drawF_le hI hp hm c_85]; rfl⟩) (Nat.le_of_ble_eq_true rfl) (Nat.le_of_ble_eq_true rfl) dX8_draw_137
        · skip
          refine lv_aload_n hx hb dX8_draw_88 rfl (lv_at hl 2 rfl) ?_
          refine lv_dup hx hb dX8_draw_89 rfl ?_
          refine r_get cx hw in_X8 0 (ci := 1) (T := TX8) (N := 13) rfl rfl 8 (by decide) q196 (fun _ h9 => h9) rfl dX8_draw_90 ?_
          refine lv_iload_n hx hb dX8_draw_93 rfl (lv_at hl 0 rfl) ?_
          refine lv_isub hx hb dX8_draw_94 ?_
          refine r_put cx hw in_X8 tyX8 tyX8_ok nmX8 0 (ci := 1) (T := TX8) (N := 13) rfl rfl 8 (by decide) q196 (fun _ h9 => h9) rfl (rfl) (rfl) (Nat.le_of_ble_eq_true rfl) dX8_draw_95 (fun H locs hw => ?_)
          have hw : WS g A9 s9.heap (HG g b q (r 0) (flgF r 4) (flgF r 5) ((r 2) - (leI (r (5 + 7 * p + 2)) (r 2))) (r 3) (r 1) (r 4) z (kdc q r) (colv r 1) (colv r 2) (colv r 3) (colv r 6)) H locs := hw
          refine lv_aload_n hx hb dX8_draw_98 rfl (lv_at hl 2 rfl) ?_
          refine r_get cx hw in_X8 0 (ci := 1) (T := TX8) (N := 13) rfl rfl 4 (by decide) q185 (fun _ h9 => h9) rfl dX8_draw_99 ?_
          refine lv_iload_n hx hb dX8_draw_102 rfl (lv_at hl 3 rfl) ?_
          refine lv_bipush (v := 99) hx hb dX8_draw_103 (by decide) ?_
          refine lv_aload_n hx hb dX8_draw_105 rfl (lv_at hl 2 rfl) ?_
          refine r_get cx hw in_X8 0 (ci := 1) (T := TX8) (N := 13) rfl rfl 4 (by decide) q185 (fun _ h9 => h9) rfl dX8_draw_106 ?_
          refine lv_iload_n hx hb dX8_draw_109 rfl (lv_at hl 3 rfl) ?_
          refine r_iald cx hw 4 rfl p rfl (by omega) (Nat.le_of_ble_eq_true rfl) dX8_draw_110 ?_
          refine r_topi (x' := r (5 + 7 * p + 3)) (rfl) ?_
          refine lv_iload_n hx hb dX8_draw_111 rfl (lv_at hl 0 rfl) ?_
          refine lv_iadd hx hb dX8_draw_112 ?_
          refine va_mmin hx hb (cx.2.2.1.trans hl.1.symm) cx.2.2.2.1 (hts _ q623) (hts _ q624) (hts _ q112) (hts _ q625) (Nat.le_of_ble_eq_true rfl) (Nat.le_of_ble_eq_true rfl) (Nat.le_of_ble_eq_true rfl) (Nat.le_of_ble_eq_true rfl) dX8_draw_113 ?_
          refine r_topi (x' := minI 99 ((r (5 + 7 * p + 3)) + (leI (r (5 + 7 * p + 2)) (r 2)))) (rfl) ?_
          refine r_iast cx hw 4 rfl p rfl (by omega) (Nat.le_of_ble_eq_true rfl) dX8_draw_116 (fun H locs hw => ?_)
          have hw : WS g A9 s9.heap (HG g b q (r 0) (flgF r 4) (flgF r 5) ((r 2) - (leI (r (5 + 7 * p + 2)) (r 2))) (r 3) (r 1) (r 4) z (kdc q r) (colv r 1) (colv r 2) (upd (colv r 3) p (minI 99 ((r (5 + 7 * p + 3)) + (leI (r (5 + 7 * p + 2)) (r 2))))) (colv r 6)) H locs := hw
          refine lv_aload_n hx hb dX8_draw_117 rfl (lv_at hl 2 rfl) ?_
          refine lv_dup hx hb dX8_draw_118 rfl ?_
          refine r_get cx hw in_X8 0 (ci := 1) (T := TX8) (N := 13) rfl rfl 7 (by decide) q194 (fun _ h9 => h9) rfl dX8_draw_119 ?_
          refine lv_iconst (v := 1) hx hb dX8_draw_122 (by decide) ?_
          refine lv_iload_n hx hb dX8_draw_123 rfl (lv_at hl 3 rfl) ?_
          refine lv_ishl hx hb dX8_draw_124 ?_
          refine lv_ior hx hb dX8_draw_125 ?_
          refine r_put cx hw in_X8 tyX8 tyX8_ok nmX8 0 (ci := 1) (T := TX8) (N := 13) rfl rfl 7 (by decide) q194 (fun _ h9 => h9) rfl (rfl) (rfl) (Nat.le_of_ble_eq_true rfl) dX8_draw_126 (fun H locs hw => ?_)
          have hw : WS g A9 s9.heap (HG g b q (r 0) (flgF r 4) ((flgF r 5) ||| ((1 : Int32) <<< ((nI p) &&& 31))) ((r 2) - (leI (r (5 + 7 * p + 2)) (r 2))) (r 3) (r 1) (r 4) z (kdc q r) (colv r 1) (colv r 2) (upd (colv r 3) p (minI 99 ((r (5 + 7 * p + 3)) + (leI (r (5 + 7 * p + 2)) (r 2))))) (colv r 6)) H locs := hw
          have c_85 : 0 < leI (r (5 + 7 * p + 2)) (r 2) := Int32.not_le.mp c_85
          have hw : WS g A9 s9.heap (HX g b q (drwB r p) z) H locs := WS.to hw (draw_eq hI hp hm c_85)
          have hw : WS g A9 s9.heap (HG g b q ((drwB r p) 0) (flgF (drwB r p) 4) (flgF (drwB r p) 5) ((drwB r p) 2) ((drwB r p) 3) ((drwB r p) 1) ((drwB r p) 4) z (kdc q (drwB r p)) (colv (drwB r p) 1) (colv (drwB r p) 2) (colv (drwB r p) 3) (colv (drwB r p) 6)) H locs := hw
          refine lv_aload_n hx hb dX8_draw_129 rfl (lv_at hl 2 rfl) ?_
          refine lv_iload_n hx hb dX8_draw_130 rfl (lv_at hl 3 rfl) ?_
          refine lv_iload_n hx hb dX8_draw_131 rfl (lv_at hl 0 rfl) ?_
          refine lv_iconst (v := 2) hx hb dX8_draw_132 (by decide) ?_
          refine lv_idiv hx hb dX8_draw_133 (by decide) ?_
          refine r_det (r_V cx hw (kX8_give l hl9 g b q (drwB r p) z (drwB_I hI hp hm) p (by rw [nN_drwB]; exact hp) ((leI (r (5 + 7 * p + 2)) (r 2)) / 2)) (cwV 2 hts (lw_V q672 q674 qs14 q93 q675) rfl rfl rfl (by decide +kernel) ⟨Nat.le_of_ble_eq_true rfl, Nat.le_of_ble_eq_true rfl⟩) (r_recv hK hw (k := 0) (ci := 1) rfl rfl) [0, 1, 2, 3, 4, 5, 6, 7, 8, 9, 10, 11] rfl rfl rfl hl.1 rfl (Nat.le_of_ble_eq_true rfl) dX8_draw_134 ⟨Nat.le_of_ble_eq_true rfl, Nat.le_of_ble_eq_true rfl⟩) cx hw [0, 1, 2, 3, 4, 5, 6, 7, 8, 9, 10, 11] rfl rfl HX_adr (ws' := HG g b q ((givX (drwB r p) p ((leI (r (5 + 7 * p + 2)) (r 2)) / 2)) 0) (flgF (givX (drwB r p) p ((leI (r (5 + 7 * p + 2)) (r 2)) / 2)) 4) (flgF (givX (drwB r p) p ((leI (r (5 + 7 * p + 2)) (r 2)) / 2)) 5) ((givX (drwB r p) p ((leI (r (5 + 7 * p + 2)) (r 2)) / 2)) 2) ((givX (drwB r p) p ((leI (r (5 + 7 * p + 2)) (r 2)) / 2)) 3) ((givX (drwB r p) p ((leI (r (5 + 7 * p + 2)) (r 2)) / 2)) 1) ((givX (drwB r p) p ((leI (r (5 + 7 * p + 2)) (r 2)) / 2)) 4) z (kdc q (givX (drwB r p) p ((leI (r (5 + 7 * p + 2)) (r 2)) / 2))) (colv (givX (drwB r p) p ((leI (r (5 + 7 * p + 2)) (r 2)) / 2)) 1) (colv (givX (drwB r p) p ((leI (r (5 + 7 * p + 2)) (r 2)) / 2)) 2) (colv (givX (drwB r p) p ((leI (r (5 + 7 * p + 2)) (r 2)) / 2)) 3) (colv (givX (drwB r p) p ((leI (r (5 + 7 * p + 2)) (r 2)) / 2)) 6)) (rfl) (fun H locs hw => ?_)
          refine W.eq (g2 := F0 m9 137 ls []) rfl ?_
          exact r_vret cx hw (⟨rfl, by rw [drawF_give hm]; rfl⟩) (Nat.le_of_ble_eq_true rfl) (Nat.le_of_ble_eq_true rfl) dX8_draw_137
    · skip
      have c_19 := bI_n0 c_19
      refine lv_aload_n hx hb dX8_draw_22 rfl (lv_at hl 0 rfl) ?_
      refine r_get cx hw in_X8 0 (ci := 1) (T := TX8) (N := 13) rfl rfl 1 (by decide) q179 (fun _ h9 => h9) rfl dX8_draw_23 ?_
      refine lv_iload_n hx hb dX8_draw_26 rfl (lv_at hl 1 rfl) ?_
      refine r_aldK cx hw 1 rfl p rfl (by omega) (Nat.le_of_ble_eq_true rfl) (kdc_p hp) dX8_draw_27 ?_
      have hr9_10 : ∀ k9 : Nat, k9 < 6 → vx_Run p9 l e9 (rmC 2 44 0 0) s9 m9 args9 below9 meth9 c9 H locs 0 0 0 0 (F0 m9 28 ls [.ref (q k9)]) [] (PostA g (va_A (KW q) H.size) (rt (some (.int (bI (decide (k9 = 5))))) (KW q)) (Value.ref (q k9) :: []).toArray) (PxA g (va_A (KW q) H.size) (pxR noX)) (va_A (KW q) H.size) := by
        intro k9 hk9
        match k9, hk9 with
        | 0, _ => exact r_U cx hw (kX1_drawsSpoken l hl9 g q 0 _ rfl rfl ) (va_cwU 0 hts (lw_U q660 q662 q667 q661 q86 q671) rfl rfl rfl rfl (by decide +kernel) ⟨Nat.le_of_ble_eq_true rfl, Nat.le_of_ble_eq_true rfl⟩) (r_recv hK hw (k := 6) (ci := 2) rfl rfl) [6, 7, 8, 9, 10, 11] rfl rfl rfl hl.1 rfl (Nat.le_of_ble_eq_true rfl) dX8_draw_28 ⟨Nat.le_of_ble_eq_true rfl, Nat.le_of_ble_eq_true rfl⟩
        | 1, _ => exact r_U cx hw (kX1_drawsSpoken l hl9 g q 1 _ rfl rfl ) (va_cwU 0 hts (lw_U q660 q662 q670 q661 q86 q671) rfl rfl rfl rfl (by decide +kernel) ⟨Nat.le_of_ble_eq_true rfl, Nat.le_of_ble_eq_true rfl⟩) (r_recv hK hw (k := 7) (ci := 3) rfl rfl) [6, 7, 8, 9, 10, 11] rfl rfl rfl hl.1 rfl (Nat.le_of_ble_eq_true rfl) dX8_draw_28 ⟨Nat.le_of_ble_eq_true rfl, Nat.le_of_ble_eq_true rfl⟩
        | 2, _ => exact r_U cx hw (kX1_drawsSpoken l hl9 g q 2 _ rfl rfl ) (va_cwU 0 hts (lw_U q660 q662 q669 q661 q86 q671) rfl rfl rfl rfl (by decide +kernel) ⟨Nat.le_of_ble_eq_true rfl, Nat.le_of_ble_eq_true rfl⟩) (r_recv hK hw (k := 8) (ci := 4) rfl rfl) [6, 7, 8, 9, 10, 11] rfl rfl rfl hl.1 rfl (Nat.le_of_ble_eq_true rfl) dX8_draw_28 ⟨Nat.le_of_ble_eq_true rfl, Nat.le_of_ble_eq_true rfl⟩
        | 3, _ => exact r_U cx hw (kX1_drawsSpoken l hl9 g q 3 _ rfl rfl ) (va_cwU 0 hts (lw_U q660 q662 q666 q661 q86 q671) rfl rfl rfl rfl (by decide +kernel) ⟨Nat.le_of_ble_eq_true rfl, Nat.le_of_ble_eq_true rfl⟩) (r_recv hK hw (k := 9) (ci := 5) rfl rfl) [6, 7, 8, 9, 10, 11] rfl rfl rfl hl.1 rfl (Nat.le_of_ble_eq_true rfl) dX8_draw_28 ⟨Nat.le_of_ble_eq_true rfl, Nat.le_of_ble_eq_true rfl⟩
        | 4, _ => exact r_U cx hw (kX1_drawsSpoken l hl9 g q 4 _ rfl rfl ) (va_cwU 0 hts (lw_U q660 q662 q668 q661 q86 q671) rfl rfl rfl rfl (by decide +kernel) ⟨Nat.le_of_ble_eq_true rfl, Nat.le_of_ble_eq_true rfl⟩) (r_recv hK hw (k := 10) (ci := 6) rfl rfl) [6, 7, 8, 9, 10, 11] rfl rfl rfl hl.1 rfl (Nat.le_of_ble_eq_true rfl) dX8_draw_28 ⟨Nat.le_of_ble_eq_true rfl, Nat.le_of_ble_eq_true rfl⟩
        | 5, _ => exact r_U cx hw (kX7_drawsSpoken l hl9 g q 5 _ rfl rfl ) (va_cwO 0 hts (lw_O q660 q662 q661 q663 q664 q92 q665) rfl rfl rfl q671 (by decide +kernel) ⟨Nat.le_of_ble_eq_true rfl, Nat.le_of_ble_eq_true rfl⟩) (r_recv hK hw (k := 11) (ci := 7) rfl rfl) [6, 7, 8, 9, 10, 11] rfl rfl rfl hl.1 rfl (Nat.le_of_ble_eq_true rfl) dX8_draw_28 ⟨Nat.le_of_ble_eq_true rfl, Nat.le_of_ble_eq_true rfl⟩
        | n9 + 6, h9 => exact absurd h9 (by omega)
      refine r_det (hr9_10 (kN r p) (hI.kind hp).1) cx hw [6, 7, 8, 9, 10, 11] rfl rfl rfl (ws' := HG g b q (r 0) (flgF r 4) (flgF r 5) (r 2) (r 3) (r 1) (r 4) z (kdc q r) (colv r 1) (colv r 2) (colv r 3) (colv r 6)) rfl (fun H locs hw => ?_)
      refine W.eq (g2 := F0 m9 31 ls [.int (bI (decide (kN r p = 5)))]) rfl ?_
      refine lv_if_eq (tgt := 60) hx hb dX8_draw_31 (by decide) (fun c_31 => ?_) (fun c_31 => ?_)
      · skip
        have c_31 := bI_e0 c_31
        have hm : mayD r p = false := by simp [mayD, flg_f hI (Or.inr rfl) hp c_8, flg_t hI (Or.inl rfl) hp c_19, k5 hI hp, c_31]
        refine lv_iconst (v := 0) hx hb dX8_draw_60 (by decide) ?_
        refine lv_istore_n (lv' := [(2, .int 0), (0, .ref (b 0)), (1, .int (nI p))]) hx hb dX8_draw_61 rfl hl (by decide) rfl (fun ls hl => ?_)
        refine lv_iload_n hx hb dX8_draw_62 rfl (lv_at hl 0 rfl) ?_
        refine lv_if_eq (tgt := 82) hx hb dX8_draw_63 (by decide) (fun c_63 => ?_) (fun c_63 => absurd c_63 (by decide))
        refine lv_iconst (v := 0) hx hb dX8_draw_82 (by decide) ?_
        refine lv_istore_n (lv' := [(3, .int 0), (2, .int 0), (0, .ref (b 0)), (1, .int (nI p))]) hx hb dX8_draw_83 rfl hl (by decide) rfl (fun ls hl => ?_)
        refine lv_iload_n hx hb dX8_draw_84 rfl (lv_at hl 0 rfl) ?_
        refine lv_if_le (tgt := 137) hx hb dX8_draw_85 (by decide) (fun c_85 => ?_) (fun c_85 => absurd c_85 (by decide))
        exact r_vret cx hw (⟨rfl, by rw [drawF_no hm]; rfl⟩) (Nat.le_of_ble_eq_true rfl) (Nat.le_of_ble_eq_true rfl) dX8_draw_137
      · skip
        have c_31 := bI_n0 c_31
        refine lv_aload_n hx hb dX8_draw_34 rfl (lv_at hl 0 rfl) ?_
        refine r_get cx hw in_X8 0 (ci := 1) (T := TX8) (N := 13) rfl rfl 11 (by decide) q205 (fun _ h9 => h9) rfl dX8_draw_35 ?_
        refine lv_iload_n hx hb dX8_draw_38 rfl (lv_at hl 1 rfl) ?_
        refine r_det (r_SN cx hw (kX0_has l hl9 g (r 4) (nI p)) (⟨r_cN 2 hts hK q632 q630 q85 (by decide +kernel) ⟨Nat.le_of_ble_eq_true rfl, Nat.le_of_ble_eq_true rfl⟩, hts _ q631, trivial⟩) [] rfl rfl rfl hl.1 rfl (Nat.le_of_ble_eq_true rfl) dX8_draw_39 ⟨Nat.le_of_ble_eq_true rfl, Nat.le_of_ble_eq_true rfl⟩) cx hw [] rfl rfl rfl (ws' := HG g b q (r 0) (flgF r 4) (flgF r 5) (r 2) (r 3) (r 1) (r 4) z (kdc q r) (colv r 1) (colv r 2) (colv r 3) (colv r 6)) (rfl) (fun H locs hw => ?_)
        refine W.eq (g2 := F0 m9 42 ls [.int (bI (hsB (r 4) (nI p)))]) rfl ?_
        refine lv_if_ne (tgt := 60) hx hb dX8_draw_42 (by decide) (fun c_42 => ?_) (fun c_42 => ?_)
        · skip
          have c_42 := bI_n0 c_42
          have hm : mayD r p = false := by simp [mayD, flg_f hI (Or.inr rfl) hp c_8, flg_t hI (Or.inl rfl) hp c_19, k5 hI hp, c_31, c_42]
          refine lv_iconst (v := 0) hx hb dX8_draw_60 (by decide) ?_
          refine lv_istore_n (lv' := [(2, .int 0), (0, .ref (b 0)), (1, .int (nI p))]) hx hb dX8_draw_61 rfl hl (by decide) rfl (fun ls hl => ?_)
          refine lv_iload_n hx hb dX8_draw_62 rfl (lv_at hl 0 rfl) ?_
          refine lv_if_eq (tgt := 82) hx hb dX8_draw_63 (by decide) (fun c_63 => ?_) (fun c_63 => absurd c_63 (by decide))
          refine lv_iconst (v := 0) hx hb dX8_draw_82 (by decide) ?_
          refine lv_istore_n (lv' := [(3, .int 0), (2, .int 0), (0, .ref (b 0)), (1, .int (nI p))]) hx hb dX8_draw_83 rfl hl (by decide) rfl (fun ls hl => ?_)
          refine lv_iload_n hx hb dX8_draw_84 rfl (lv_at hl 0 rfl) ?_
          refine lv_if_le (tgt := 137) hx hb dX8_draw_85 (by decide) (fun c_85 => ?_) (fun c_85 => absurd c_85 (by decide))
          exact r_vret cx hw (⟨rfl, by rw [drawF_no hm]; rfl⟩) (Nat.le_of_ble_eq_true rfl) (Nat.le_of_ble_eq_true rfl) dX8_draw_137
        · skip
          have c_42 := bI_e0 c_42
          refine lv_aload_n hx hb dX8_draw_45 rfl (lv_at hl 0 rfl) ?_
          refine r_get cx hw in_X8 0 (ci := 1) (T := TX8) (N := 13) rfl rfl 4 (by decide) q185 (fun _ h9 => h9) rfl dX8_draw_46 ?_
          refine lv_iload_n hx hb dX8_draw_49 rfl (lv_at hl 1 rfl) ?_
          refine r_iald cx hw 4 rfl p rfl (by omega) (Nat.le_of_ble_eq_true rfl) dX8_draw_50 ?_
          refine r_topi (x' := r (5 + 7 * p + 3)) (rfl) ?_
          refine lv_bipush (v := 20) hx hb dX8_draw_51 (by decide) ?_
          refine lv_icmp_ge (tgt := 60) hx hb dX8_draw_53 (by decide) (fun c_53 => ?_) (fun c_53 => ?_)
          · skip
            have c_53N := Int32.not_lt.mpr c_53
            have hm : mayD r p = false := by simp [mayD, flg_f hI (Or.inr rfl) hp c_8, flg_t hI (Or.inl rfl) hp c_19, k5 hI hp, c_31, c_42, c_53, c_53N]
            refine lv_iconst (v := 0) hx hb dX8_draw_60 (by decide) ?_
            refine lv_istore_n (lv' := [(2, .int 0), (0, .ref (b 0)), (1, .int (nI p))]) hx hb dX8_draw_61 rfl hl (by decide) rfl (fun ls hl => ?_)
            refine lv_iload_n hx hb dX8_draw_62 rfl (lv_at hl 0 rfl) ?_
            refine lv_if_eq (tgt := 82) hx hb dX8_draw_63 (by decide) (fun c_63 => ?_) (fun c_63 => absurd c_63 (by decide))
            refine lv_iconst (v := 0) hx hb dX8_draw_82 (by decide) ?_
            refine lv_istore_n (lv' := [(3, .int 0), (2, .int 0), (0, .ref (b 0)), (1, .int (nI p))]) hx hb dX8_draw_83 rfl hl (by decide) rfl (fun ls hl => ?_)
            refine lv_iload_n hx hb dX8_draw_84 rfl (lv_at hl 0 rfl) ?_
            refine lv_if_le (tgt := 137) hx hb dX8_draw_85 (by decide) (fun c_85 => ?_) (fun c_85 => absurd c_85 (by decide))
            exact r_vret cx hw (⟨rfl, by rw [drawF_no hm]; rfl⟩) (Nat.le_of_ble_eq_true rfl) (Nat.le_of_ble_eq_true rfl) dX8_draw_137
          · skip
            have c_53N := Int32.not_le.mp c_53
            have hm : mayD r p = true := by simp [mayD, flg_f hI (Or.inr rfl) hp c_8, flg_t hI (Or.inl rfl) hp c_19, k5 hI hp, c_31, c_42, c_53, c_53N]
            refine lv_iconst (v := 1) hx hb dX8_draw_56 (by decide) ?_
            refine lv_goto (tgt := 61) hx hb dX8_draw_57 (by decide) ?_
            refine lv_istore_n (lv' := [(2, .int 1), (0, .ref (b 0)), (1, .int (nI p))]) hx hb dX8_draw_61 rfl hl (by decide) rfl (fun ls hl => ?_)
            refine lv_iload_n hx hb dX8_draw_62 rfl (lv_at hl 0 rfl) ?_
            refine lv_if_eq (tgt := 82) hx hb dX8_draw_63 (by decide) (fun c_63 => absurd c_63 (by decide)) (fun c_63 => ?_)
            refine lv_aload_n hx hb dX8_draw_66 rfl (lv_at hl 1 rfl) ?_
            refine r_get cx hw in_X8 0 (ci := 1) (T := TX8) (N := 13) rfl rfl 3 (by decide) q183 (fun _ h9 => h9) rfl dX8_draw_67 ?_
            refine lv_iload_n hx hb dX8_draw_70 rfl (lv_at hl 2 rfl) ?_
            refine r_iald cx hw 3 rfl p rfl (by omega) (Nat.le_of_ble_eq_true rfl) dX8_draw_71 ?_
            refine r_topi (x' := r (5 + 7 * p + 2)) (rfl) ?_
            refine lv_aload_n hx hb dX8_draw_72 rfl (lv_at hl 1 rfl) ?_
            refine r_get cx hw in_X8 0 (ci := 1) (T := TX8) (N := 13) rfl rfl 8 (by decide) q196 (fun _ h9 => h9) rfl dX8_draw_73 ?_
            refine va_mmin hx hb (cx.2.2.1.trans hl.1.symm) cx.2.2.2.1 (hts _ q623) (hts _ q624) (hts _ q112) (hts _ q625) (Nat.le_of_ble_eq_true rfl) (Nat.le_of_ble_eq_true rfl) (Nat.le_of_ble_eq_true rfl) (Nat.le_of_ble_eq_true rfl) dX8_draw_76 ?_
            refine r_topi (x' := minI (r (5 + 7 * p + 2)) (r 2)) (rfl) ?_
            refine r_topi (x' := leI (r (5 + 7 * p + 2)) (r 2)) (minI_leI _ _) ?_
            refine lv_goto (tgt := 83) hx hb dX8_draw_79 (by decide) ?_
            refine lv_istore_n (lv' := [(3, .int (leI (r (5 + 7 * p + 2)) (r 2))), (2, .int 1), (0, .ref (b 0)), (1, .int (nI p))]) hx hb dX8_draw_83 rfl hl (by decide) rfl (fun ls hl => ?_)
            refine lv_iload_n hx hb dX8_draw_84 rfl (lv_at hl 0 rfl) ?_
            refine lv_if_le (tgt := 137) hx hb dX8_draw_85 (by decide) (fun c_85 => ?_) (fun c_85 => ?_)
            · skip
              exact r_vret cx hw (⟨rfl, by rw [drawF_le hI hp hm c_85]; rfl⟩) (Nat.le_of_ble_eq_true rfl) (Nat.le_of_ble_eq_true rfl) dX8_draw_137
            · skip
              refine lv_aload_n hx hb dX8_draw_88 rfl (lv_at hl 2 rfl) ?_
              refine lv_dup hx hb dX8_draw_89 rfl ?_
              refine r_get cx hw in_X8 0 (ci := 1) (T := TX8) (N := 13) rfl rfl 8 (by decide) q196 (fun _ h9 => h9) rfl dX8_draw_90 ?_
              refine lv_iload_n hx hb dX8_draw_93 rfl (lv_at hl 0 rfl) ?_
              refine lv_isub hx hb dX8_draw_94 ?_
              refine r_put cx hw in_X8 tyX8 tyX8_ok nmX8 0 (ci := 1) (T := TX8) (N := 13) rfl rfl 8 (by decide) q196 (fun _ h9 => h9) rfl (rfl) (rfl) (Nat.le_of_ble_eq_true rfl) dX8_draw_95 (fun H locs hw => ?_)
              have hw : WS g A9 s9.heap (HG g b q (r 0) (flgF r 4) (flgF r 5) ((r 2) - (leI (r (5 + 7 * p + 2)) (r 2))) (r 3) (r 1) (r 4) z (kdc q r) (colv r 1) (colv r 2) (colv r 3) (colv r 6)) H locs := hw
              refine lv_aload_n hx hb dX8_draw_98 rfl (lv_at hl 2 rfl) ?_
              refine r_get cx hw in_X8 0 (ci := 1) (T := TX8) (N := 13) rfl rfl 4 (by decide) q185 (fun _ h9 => h9) rfl dX8_draw_99 ?_
              refine lv_iload_n hx hb dX8_draw_102 rfl (lv_at hl 3 rfl) ?_
              refine lv_bipush (v := 99) hx hb dX8_draw_103 (by decide) ?_
              refine lv_aload_n hx hb dX8_draw_105 rfl (lv_at hl 2 rfl) ?_
              refine r_get cx hw in_X8 0 (ci := 1) (T := TX8) (N := 13) rfl rfl 4 (by decide) q185 (fun _ h9 => h9) rfl dX8_draw_106 ?_
              refine lv_iload_n hx hb dX8_draw_109 rfl (lv_at hl 3 rfl) ?_
              refine r_iald cx hw 4 rfl p rfl (by omega) (Nat.le_of_ble_eq_true rfl) dX8_draw_110 ?_
              refine r_topi (x' := r (5 + 7 * p + 3)) (rfl) ?_
              refine lv_iload_n hx hb dX8_draw_111 rfl (lv_at hl 0 rfl) ?_
              refine lv_iadd hx hb dX8_draw_112 ?_
              refine va_mmin hx hb (cx.2.2.1.trans hl.1.symm) cx.2.2.2.1 (hts _ q623) (hts _ q624) (hts _ q112) (hts _ q625) (Nat.le_of_ble_eq_true rfl) (Nat.le_of_ble_eq_true rfl) (Nat.le_of_ble_eq_true rfl) (Nat.le_of_ble_eq_true rfl) dX8_draw_113 ?_
              refine r_topi (x' := minI 99 ((r (5 + 7 * p + 3)) + (leI (r (5 + 7 * p + 2)) (r 2)))) (rfl) ?_
              refine r_iast cx hw 4 rfl p rfl (by omega) (Nat.le_of_ble_eq_true rfl) dX8_draw_116 (fun H locs hw => ?_)
              have hw : WS g A9 s9.heap (HG g b q (r 0) (flgF r 4) (flgF r 5) ((r 2) - (leI (r (5 + 7 * p + 2)) (r 2))) (r 3) (r 1) (r 4) z (kdc q r) (colv r 1) (colv r 2) (upd (colv r 3) p (minI 99 ((r (5 + 7 * p + 3)) + (leI (r (5 + 7 * p + 2)) (r 2))))) (colv r 6)) H locs := hw
              refine lv_aload_n hx hb dX8_draw_117 rfl (lv_at hl 2 rfl) ?_
              refine lv_dup hx hb dX8_draw_118 rfl ?_
              refine r_get cx hw in_X8 0 (ci := 1) (T := TX8) (N := 13) rfl rfl 7 (by decide) q194 (fun _ h9 => h9) rfl dX8_draw_119 ?_
              refine lv_iconst (v := 1) hx hb dX8_draw_122 (by decide) ?_
              refine lv_iload_n hx hb dX8_draw_123 rfl (lv_at hl 3 rfl) ?_
              refine lv_ishl hx hb dX8_draw_124 ?_
              refine lv_ior hx hb dX8_draw_125 ?_
              refine r_put cx hw in_X8 tyX8 tyX8_ok nmX8 0 (ci := 1) (T := TX8) (N := 13) rfl rfl 7 (by decide) q194 (fun _ h9 => h9) rfl (rfl) (rfl) (Nat.le_of_ble_eq_true rfl) dX8_draw_126 (fun H locs hw => ?_)
              have hw : WS g A9 s9.heap (HG g b q (r 0) (flgF r 4) ((flgF r 5) ||| ((1 : Int32) <<< ((nI p) &&& 31))) ((r 2) - (leI (r (5 + 7 * p + 2)) (r 2))) (r 3) (r 1) (r 4) z (kdc q r) (colv r 1) (colv r 2) (upd (colv r 3) p (minI 99 ((r (5 + 7 * p + 3)) + (leI (r (5 + 7 * p + 2)) (r 2))))) (colv r 6)) H locs := hw
              have c_85 : 0 < leI (r (5 + 7 * p + 2)) (r 2) := Int32.not_le.mp c_85
              have hw : WS g A9 s9.heap (HX g b q (drwB r p) z) H locs := WS.to hw (draw_eq hI hp hm c_85)
              have hw : WS g A9 s9.heap (HG g b q ((drwB r p) 0) (flgF (drwB r p) 4) (flgF (drwB r p) 5) ((drwB r p) 2) ((drwB r p) 3) ((drwB r p) 1) ((drwB r p) 4) z (kdc q (drwB r p)) (colv (drwB r p) 1) (colv (drwB r p) 2) (colv (drwB r p) 3) (colv (drwB r p) 6)) H locs := hw
              refine lv_aload_n hx hb dX8_draw_129 rfl (lv_at hl 2 rfl) ?_
              refine lv_iload_n hx hb dX8_draw_130 rfl (lv_at hl 3 rfl) ?_
              refine lv_iload_n hx hb dX8_draw_131 rfl (lv_at hl 0 rfl) ?_
              refine lv_iconst (v := 2) hx hb dX8_draw_132 (by decide) ?_
              refine lv_idiv hx hb dX8_draw_133 (by decide) ?_
              refine r_det (r_V cx hw (kX8_give l hl9 g b q (drwB r p) z (drwB_I hI hp hm) p (by rw [nN_drwB]; exact hp) ((leI (r (5 + 7 * p + 2)) (r 2)) / 2)) (cwV 2 hts (lw_V q672 q674 qs14 q93 q675) rfl rfl rfl (by decide +kernel) ⟨Nat.le_of_ble_eq_true rfl, Nat.le_of_ble_eq_true rfl⟩) (r_recv hK hw (k := 0) (ci := 1) rfl rfl) [0, 1, 2, 3, 4, 5, 6, 7, 8, 9, 10, 11] rfl rfl rfl hl.1 rfl (Nat.le_of_ble_eq_true rfl) dX8_draw_134 ⟨Nat.le_of_ble_eq_true rfl, Nat.le_of_ble_eq_true rfl⟩) cx hw [0, 1, 2, 3, 4, 5, 6, 7, 8, 9, 10, 11] rfl rfl HX_adr (ws' := HG g b q ((givX (drwB r p) p ((leI (r (5 + 7 * p + 2)) (r 2)) / 2)) 0) (flgF (givX (drwB r p) p ((leI (r (5 + 7 * p + 2)) (r 2)) / 2)) 4) (flgF (givX (drwB r p) p ((leI (r (5 + 7 * p + 2)) (r 2)) / 2)) 5) ((givX (drwB r p) p ((leI (r (5 + 7 * p + 2)) (r 2)) / 2)) 2) ((givX (drwB r p) p ((leI (r (5 + 7 * p + 2)) (r 2)) / 2)) 3) ((givX (drwB r p) p ((leI (r (5 + 7 * p + 2)) (r 2)) / 2)) 1) ((givX (drwB r p) p ((leI (r (5 + 7 * p + 2)) (r 2)) / 2)) 4) z (kdc q (givX (drwB r p) p ((leI (r (5 + 7 * p + 2)) (r 2)) / 2))) (colv (givX (drwB r p) p ((leI (r (5 + 7 * p + 2)) (r 2)) / 2)) 1) (colv (givX (drwB r p) p ((leI (r (5 + 7 * p + 2)) (r 2)) / 2)) 2) (colv (givX (drwB r p) p ((leI (r (5 + 7 * p + 2)) (r 2)) / 2)) 3) (colv (givX (drwB r p) p ((leI (r (5 + 7 * p + 2)) (r 2)) / 2)) 6)) (rfl) (fun H locs hw => ?_)
              refine W.eq (g2 := F0 m9 137 ls []) rfl ?_
              exact r_vret cx hw (⟨rfl, by rw [drawF_give hm]; rfl⟩) (Nat.le_of_ble_eq_true rfl) (Nat.le_of_ble_eq_true rfl) dX8_draw_137
