/-! the reference: the hill out of letters -/
set_option maxRecDepth 100000
set_option maxHeartbeats 4000000 in
set_option maxRecDepth 100000 in
theorem kX9_hill (l : Launch) (hl9 : l.stackTraces = false) (g : GG) (a : Nat → Nat) (s m im wa L R rf nu : Nat → Int32) (hi rn pl sd : Int32) (M : Nat) (hM : M ≤ 96) (hI : InvM s) : MC l yX9_hill cX9_hill 6 (some .int) 6 134 0 0 g [.ref (a 0)] (WM g a s m im wa L R rf nu hi (nI M) rn pl sd) (rtE (α := (Nat → Int32) × (Nat → Int32) × Int32) (some (.int (hlF L M s).1)) (fun x9 => WM g a ((hlF L M s).2) m im x9.1 L R rf x9.2.1 hi 0 rn x9.2.2 sd)) (noX) := by
  refine MC.of (by decide) (Nat.le_of_ble_eq_true rfl) ?_
  intro p9 e9 s9 m9 args9 below9 meth9 c9 A9 ls cx htab hw hl
  have hx := cx.1
  have hb := cx.2.1
  have hts := cx.2.2.2.2.1
  have hK := cx.2.2.2.2.2.2.2.1
  have hl : lv_has ls 6 [(0, .ref (a 0))] := hl
  have J46 : ∀ (nn : Nat → Int32) (x F : Int32) (c : Nat), scR L M (M + 1) 0 0 = (F, c) → ∀ (H : Heap) (locs : List Loc) (ls : Array Slot), WS g A9 s9.heap (WM g a s m im wa L R rf nn hi (nI M) rn x sd) H locs → lv_has ls 6 [(0, .ref (a 0)), (1, .int (nI c)), (2, .int F)] → W p9 l e9 (rmC 6 134 0 0) s9 m9 args9 below9 meth9 c9 H locs 0 0 (vx_MQ below9 (PostA g A9 (rtE (α := (Nat → Int32) × (Nat → Int32) × Int32) (some (.int (hlF L M s).1)) (fun x9 => WM g a ((hlF L M s).2) m im x9.1 L R rf x9.2.1 hi 0 rn x9.2.2 sd))) (PxA g A9 (pxR (noX))) args9 s9 0 0 A9) (F0 m9 46 ls []) := by
    intro nn x F c hs H locs ls hw hl
    by_cases hF : F = -9
    · skip
      subst hF
      have J62 : ∀ (n9 n : Nat) (k : Nat) (nn t : Nat → Int32), n ≤ (M + 1) → (M + 1) < n9 + n → k ≤ 900 → 3 * n ≤ k → InvM t → (k < M → (scR L M (M + 1 - n) k n).1 = -9) → exR L M (M + 1) 0 s = exR L M (M + 1 - n) k t → ∀ (H : Heap) (locs : List Loc) (ls : Array Slot), WS g A9 s9.heap (WM g a t m im s L R rf nn hi (nI M) rn (nI k) sd) H locs → lv_has ls 6 [(0, .ref (a 0)), (1, .int (nI c)), (2, .int (-9))] → W p9 l e9 (rmC 6 134 0 0) s9 m9 args9 below9 meth9 c9 H locs 0 0 (vx_MQ below9 (PostA g A9 (rtE (α := (Nat → Int32) × (Nat → Int32) × Int32) (some (.int (hlF L M s).1)) (fun x9 => WM g a ((hlF L M s).2) m im x9.1 L R rf x9.2.1 hi 0 rn x9.2.2 sd))) (PxA g A9 (pxR (noX))) args9 s9 0 0 A9) (F0 m9 62 ls []) := by
        intro n9
        induction n9 with
        | zero => intro n k nn t hj hk9; exact absurd hk9 (by omega)
        | succ n9 ih_J62 =>
          intro n k nn t hj hk9 hk9 hnk hIt hsc hv H locs ls hw hl
          have hsp := stP_le L M k
          refine lv_iload_n hx hb dX9_hill_62 rfl (lv_at hl 2 rfl) ?_
          refine lv_bipush (v := (-9)) hx hb dX9_hill_63 (by decide) ?_
          refine lv_icmp_ne (tgt := 128) hx hb dX9_hill_65 (by decide) (fun c => absurd rfl c) (fun _ => ?_)
          refine lv_aload_n hx hb dX9_hill_68 rfl (lv_at hl 0 rfl) ?_
          refine r_get cx hw in_X9 0 (ci := 8) (T := TX9) (N := 13) rfl rfl 10 (by decide) q1179 (fun _ h9 => h9) rfl dX9_hill_69 ?_
          refine lv_aload_n hx hb dX9_hill_72 rfl (lv_at hl 0 rfl) ?_
          refine r_get cx hw in_X9 0 (ci := 8) (T := TX9) (N := 13) rfl rfl 8 (by decide) q1177 (fun _ h9 => h9) rfl dX9_hill_73 ?_
          refine lv_icmp_ge (tgt := 128) hx hb dX9_hill_76 (by decide) (fun c_76 => ?_) (fun c_76 => ?_)
          · skip
            have c_76 : M ≤ k := (nI_leI (a := M) (b := k) (by omega) (by omega)).mp c_76
            have hx9 := hv.trans (exR_end (f := M + 1 - n) (show ¬ k < M by omega))
            have hl8 : hlF L M s = (nI c, t) := by unfold hlF; rw [hs, hx9]; exact (if_pos rfl).trans (if_pos rfl)
            refine lv_aload_n hx hb dX9_hill_128 rfl (lv_at hl 0 rfl) ?_
            refine lv_iconst (v := 0) hx hb dX9_hill_129 (by decide) ?_
            refine r_put cx hw in_X9 tyX9 tyX9_ok nmX9 0 (ci := 8) (T := TX9) (N := 13) rfl rfl 8 (by decide) q1177 (fun _ h9 => h9) rfl (rfl) (rfl) (Nat.le_of_ble_eq_true rfl) dX9_hill_130 (fun H locs hw => ?_)
            have hw : WS g A9 s9.heap (WM g a t m im s L R rf nn hi 0 rn (nI k) sd) H locs := hw
            refine lv_iload_n hx hb dX9_hill_133 rfl (lv_at hl 2 rfl) ?_
            refine lv_bipush (v := (-9)) hx hb dX9_hill_134 (by decide) ?_
            refine lv_icmp_ne (tgt := 143) hx hb dX9_hill_136 (by decide) (fun c => absurd rfl c) (fun _ => ?_)
            refine lv_iload_n hx hb dX9_hill_139 rfl (lv_at hl 1 rfl) ?_
            refine lv_goto (tgt := 144) hx hb dX9_hill_140 (by decide) ?_
            exact r_iret cx hw (⟨(s, nn, nI k), by rw [hl8], by rw [hl8]⟩) (Nat.le_of_ble_eq_true rfl) (Nat.le_of_ble_eq_true rfl) dX9_hill_144
          · skip
            have c_76 : k < M := Nat.not_le.mp (fun h9 => c_76 ((nI_leI (a := M) (b := k) (by omega) (by omega)).mpr h9))
            have hkM : k < M := c_76
            refine lv_aload_n hx hb dX9_hill_79 rfl (lv_at hl 0 rfl) ?_
            refine r_get cx hw in_X9 0 (ci := 8) (T := TX9) (N := 13) rfl rfl 10 (by decide) q1179 (fun _ h9 => h9) rfl dX9_hill_80 ?_
            refine lv_istore_n (lv' := [(3, .int (nI k)), (0, .ref (a 0)), (1, .int (nI c)), (2, .int (-9))]) hx hb dX9_hill_83 rfl hl (by decide) rfl (fun ls hl => ?_)
            refine lv_aload_n hx hb dX9_hill_84 rfl (lv_at hl 1 rfl) ?_
            refine r_det (r_V cx hw (kX9_here l hl9 g a t m im s L R rf nn hi rn sd M k (by omega) (by omega) ) (cwV 0 hts (lw_V q1225 q1227 qs67 q94 q1228) rfl rfl rfl (by decide +kernel) ⟨Nat.le_of_ble_eq_true rfl, Nat.le_of_ble_eq_true rfl⟩) (r_recv hK hw (k := 0) (ci := 8) rfl rfl) [0, 1, 2, 3, 4, 5, 6, 7, 8] rfl rfl rfl hl.1 rfl (Nat.le_of_ble_eq_true rfl) dX9_hill_85 ⟨Nat.le_of_ble_eq_true rfl, Nat.le_of_ble_eq_true rfl⟩) cx hw [0, 1, 2, 3, 4, 5, 6, 7, 8] rfl rfl WM_adr (ws' := WM g a t m im s L R rf nn hi (nI M) rn (nI k) sd) (rfl) (fun H locs hw => ?_)
            refine W.eq (g2 := F0 m9 88 ls [.int (hrF L M k)]) rfl ?_
            refine lv_istore (lv' := [(4, .int (hrF L M k)), (3, .int (nI k)), (0, .ref (a 0)), (1, .int (nI c)), (2, .int (-9))]) hx hb dX9_hill_88 hl (by decide) rfl (fun ls hl => ?_)
            refine lv_aload_n hx hb dX9_hill_90 rfl (lv_at hl 2 rfl) ?_
            refine r_detP (α := Nat → Int32) (C := fun x9 => stB L M k = true → nuOK L M k x9) (r_V cx hw (kX9_readsStatement l hl9 g a t m im s L R rf nn hi rn sd M k (by omega) (by omega) ) (cwV 0 hts (lw_V q1221 q1223 qs66 q94 q1224) rfl rfl rfl (by decide +kernel) ⟨Nat.le_of_ble_eq_true rfl, Nat.le_of_ble_eq_true rfl⟩) (r_recv hK hw (k := 0) (ci := 8) rfl rfl) [0, 1, 2, 3, 4, 5, 6, 7, 8] rfl rfl rfl hl.1 rfl (Nat.le_of_ble_eq_true rfl) dX9_hill_91 ⟨Nat.le_of_ble_eq_true rfl, Nat.le_of_ble_eq_true rfl⟩) cx hw [0, 1, 2, 3, 4, 5, 6, 7, 8] rfl rfl (fun _ => WM_adr) (ws' := fun x9 => WM g a t m im s L R rf x9 hi (nI M) rn (nI (stP L M k)) sd) (fun _ => rfl) (fun nn_2 H locs hnn_2 hw => ?_)
            have hnn_2 : stB L M k = true → nuOK L M k nn_2 := hnn_2
            refine W.eq (g2 := F0 m9 94 ls [.int (bI (stB L M k))]) rfl ?_
            have hw : WS g A9 s9.heap (WM g a t m im s L R rf nn_2 hi (nI M) rn (nI (stP L M k)) sd) H locs := hw
            refine lv_istore (lv' := [(5, .int (bI (stB L M k))), (4, .int (hrF L M k)), (3, .int (nI k)), (0, .ref (a 0)), (1, .int (nI c)), (2, .int (-9))]) hx hb dX9_hill_94 hl (by decide) rfl (fun ls hl => ?_)
            refine lv_aload_n hx hb dX9_hill_96 rfl (lv_at hl 3 rfl) ?_
            refine lv_iload hx hb dX9_hill_97 (lv_at hl 1 rfl) ?_
            refine r_detP (α := Nat → Int32) (C := fun x9 => doB t (hrF L M k) (nn_2 0) (nn_2 1) = true → x9 = doS t (hrF L M k) (nn_2 0) (nn_2 1) (nn_2 2)) (r_V cx hw (kX9_isDone l hl9 g a t m im s L R rf nn_2 hi (nI M) rn (nI (stP L M k)) sd hIt (hrF L M k)) (cwV 1 hts (lw_V q1246 q1248 qs70 q94 q1249) rfl rfl rfl (by decide +kernel) ⟨Nat.le_of_ble_eq_true rfl, Nat.le_of_ble_eq_true rfl⟩) (r_recv hK hw (k := 0) (ci := 8) rfl rfl) [0, 1, 2, 3, 4, 5, 6, 7, 8] rfl rfl rfl hl.1 rfl (Nat.le_of_ble_eq_true rfl) dX9_hill_99 ⟨Nat.le_of_ble_eq_true rfl, Nat.le_of_ble_eq_true rfl⟩) cx hw [0, 1, 2, 3, 4, 5, 6, 7, 8] rfl rfl (fun _ => WM_adr) (ws' := fun x9 => WM g a x9 m im s L R rf nn_2 hi (nI M) rn (nI (stP L M k)) sd) (fun _ => rfl) (fun ss_3 H locs hss_3 hw => ?_)
            have hss_3 : doB t (hrF L M k) (nn_2 0) (nn_2 1) = true → ss_3 = doS t (hrF L M k) (nn_2 0) (nn_2 1) (nn_2 2) := hss_3
            refine W.eq (g2 := F0 m9 102 ls [.int (bI (doB t (hrF L M k) (nn_2 0) (nn_2 1)))]) rfl ?_
            have hw : WS g A9 s9.heap (WM g a ss_3 m im s L R rf nn_2 hi (nI M) rn (nI (stP L M k)) sd) H locs := hw
            refine lv_if_eq (tgt := 108) hx hb dX9_hill_102 (by decide) (fun c_102 => ?_) (fun c_102 => ?_)
            · skip
              have c_102 := bI_e0 c_102
              have hn9 : n ≤ M := by omega
              have hsc9 : (scR L M (M - n + 1) k n).1 = -9 := by rw [show M - n + 1 = M + 1 - n by omega]; exact hsc hkM
              obtain ⟨hst, hnx⟩ := scR_ok hsc9 hk9
              obtain ⟨e1, e2⟩ := do_nu (s := t) (hnn_2 hst)
              rw [e1] at c_102
              have hx9 : exR L M (M + 1) 0 s = (-2000 - nI k, t) := by rw [hv, show M + 1 - n = M - n + 1 by omega, exR, if_pos hkM, if_neg (by rw [c_102]; decide)]
              have hm9 : ¬ (-2000 - nI k = -9) := m2000 (by omega)
              have hl8 : hlF L M s = (-2000 - nI k, s) := by unfold hlF; rw [hs, hx9]; exact (if_pos rfl).trans (if_neg hm9)
              refine lv_sipush (v := (-2000)) hx hb dX9_hill_108 (by decide) ?_
              refine lv_iload_n hx hb dX9_hill_111 rfl (lv_at hl 2 rfl) ?_
              refine lv_isub hx hb dX9_hill_112 ?_
              refine lv_istore_n (lv' := [(2, .int ((-2000) - (nI k))), (5, .int (bI (stB L M k))), (4, .int (hrF L M k)), (3, .int (nI k)), (0, .ref (a 0)), (1, .int (nI c))]) hx hb dX9_hill_113 rfl hl (by decide) rfl (fun ls hl => ?_)
              refine lv_aload_n hx hb dX9_hill_114 rfl (lv_at hl 4 rfl) ?_
              refine r_get cx hw in_X9 0 (ci := 8) (T := TX9) (N := 13) rfl rfl 3 (by decide) q1172 (fun _ h9 => h9) rfl dX9_hill_115 ?_
              refine lv_aload_n hx hb dX9_hill_118 rfl (lv_at hl 4 rfl) ?_
              refine r_get cx hw in_X9 0 (ci := 8) (T := TX9) (N := 13) rfl rfl 0 (by decide) q1169 (fun _ h9 => h9) rfl dX9_hill_119 ?_
              refine r_det (r_S cx hw (kX9_copies l hl9 g (a 4) (a 1) s ss_3) (va_cwS 2 hts (lw_S q1243 q1244 q94 q1245) rfl rfl rfl (by decide +kernel) ⟨Nat.le_of_ble_eq_true rfl, Nat.le_of_ble_eq_true rfl⟩) [4, 1] rfl rfl rfl hl.1 rfl (Nat.le_of_ble_eq_true rfl) dX9_hill_122 ⟨Nat.le_of_ble_eq_true rfl, Nat.le_of_ble_eq_true rfl⟩) cx hw [4, 1] rfl rfl rfl (ws' := WM g a s m im s L R rf nn_2 hi (nI M) rn (nI (stP L M k)) sd) (rfl) (fun H locs hw => ?_)
              refine W.eq (g2 := F0 m9 125 ls []) rfl ?_
              refine lv_goto (tgt := 62) hx hb dX9_hill_125 (by decide) ?_
              refine lv_iload_n hx hb dX9_hill_62 rfl (lv_at hl 0 rfl) ?_
              refine lv_bipush (v := (-9)) hx hb dX9_hill_63 (by decide) ?_
              refine lv_icmp_ne (tgt := 128) hx hb dX9_hill_65 (by decide) (fun _ => ?_) (fun c => absurd c hm9)
              refine lv_aload_n hx hb dX9_hill_128 rfl (lv_at hl 4 rfl) ?_
              refine lv_iconst (v := 0) hx hb dX9_hill_129 (by decide) ?_
              refine r_put cx hw in_X9 tyX9 tyX9_ok nmX9 0 (ci := 8) (T := TX9) (N := 13) rfl rfl 8 (by decide) q1177 (fun _ h9 => h9) rfl (rfl) (rfl) (Nat.le_of_ble_eq_true rfl) dX9_hill_130 (fun H locs hw => ?_)
              have hw : WS g A9 s9.heap (WM g a s m im s L R rf nn_2 hi 0 rn (nI (stP L M k)) sd) H locs := hw
              refine lv_iload_n hx hb dX9_hill_133 rfl (lv_at hl 0 rfl) ?_
              refine lv_bipush (v := (-9)) hx hb dX9_hill_134 (by decide) ?_
              refine lv_icmp_ne (tgt := 143) hx hb dX9_hill_136 (by decide) (fun _ => ?_) (fun c => absurd c hm9)
              refine lv_iload_n hx hb dX9_hill_143 rfl (lv_at hl 0 rfl) ?_
              exact r_iret cx hw (⟨(s, nn_2, nI (stP L M k)), by rw [hl8], by rw [hl8]⟩) (Nat.le_of_ble_eq_true rfl) (Nat.le_of_ble_eq_true rfl) dX9_hill_144
            · skip
              have c_102 := bI_n0 c_102
              have hn9 : n ≤ M := by omega
              have hsc9 : (scR L M (M - n + 1) k n).1 = -9 := by rw [show M - n + 1 = M + 1 - n by omega]; exact hsc hkM
              obtain ⟨hst, hnx⟩ := scR_ok hsc9 hk9
              have hgt := stP_gt hst
              obtain ⟨e1, e2⟩ := do_nu (s := t) (hnn_2 hst)
              have hd9 := hss_3 c_102
              rw [e2] at hd9
              rw [e1] at c_102
              refine lv_goto (tgt := 62) hx hb dX9_hill_105 (by decide) ?_
              exact ih_J62 (n + 1) (stP L M k) nn_2 ss_3 (by omega) (by omega) (by omega) (by omega) (by rw [hd9]; exact doS_I hIt c_102 (fun hc => n1_0 hst hc)) (fun h2 => by rw [show M + 1 - (n + 1) = M - n by omega, ← hnx h2]; exact hsc9) (by rw [hv, show M + 1 - n = M - n + 1 by omega, show M + 1 - (n + 1) = M - n by omega, exR, if_pos hkM, if_pos c_102, hd9]) _ _ _ (hw) (lv_sub hl [3, 4, 5] rfl)
      refine lv_aload_n hx hb dX9_hill_46 rfl (lv_at hl 0 rfl) ?_
      refine r_get cx hw in_X9 0 (ci := 8) (T := TX9) (N := 13) rfl rfl 0 (by decide) q1169 (fun _ h9 => h9) rfl dX9_hill_47 ?_
      refine lv_aload_n hx hb dX9_hill_50 rfl (lv_at hl 0 rfl) ?_
      refine r_get cx hw in_X9 0 (ci := 8) (T := TX9) (N := 13) rfl rfl 3 (by decide) q1172 (fun _ h9 => h9) rfl dX9_hill_51 ?_
      refine r_det (r_S cx hw (kX9_copies l hl9 g (a 1) (a 4) s wa) (va_cwS 2 hts (lw_S q1243 q1244 q94 q1245) rfl rfl rfl (by decide +kernel) ⟨Nat.le_of_ble_eq_true rfl, Nat.le_of_ble_eq_true rfl⟩) [1, 4] rfl rfl rfl hl.1 rfl (Nat.le_of_ble_eq_true rfl) dX9_hill_54 ⟨Nat.le_of_ble_eq_true rfl, Nat.le_of_ble_eq_true rfl⟩) cx hw [1, 4] rfl rfl rfl (ws' := WM g a s m im s L R rf nn hi (nI M) rn x sd) (rfl) (fun H locs hw => ?_)
      refine W.eq (g2 := F0 m9 57 ls []) rfl ?_
      refine lv_aload_n hx hb dX9_hill_57 rfl (lv_at hl 0 rfl) ?_
      refine lv_iconst (v := 0) hx hb dX9_hill_58 (by decide) ?_
      refine r_put cx hw in_X9 tyX9 tyX9_ok nmX9 0 (ci := 8) (T := TX9) (N := 13) rfl rfl 10 (by decide) q1179 (fun _ h9 => h9) rfl (rfl) (rfl) (Nat.le_of_ble_eq_true rfl) dX9_hill_59 (fun H locs hw => ?_)
      have hw : WS g A9 s9.heap (WM g a s m im s L R rf nn hi (nI M) rn 0 sd) H locs := hw
      exact J62 ((M + 1) + 1) 0 0 nn s (by omega) (by omega) (by omega) (by omega) hI (fun _ => by show (scR L M (M + 1) 0 0).1 = -9; rw [hs]) rfl _ _ _ (hw) (lv_sub hl [0, 1, 2] rfl)
    have hl8 : hlF L M s = (F, s) := by unfold hlF; rw [hs]; exact if_neg hF
    refine lv_aload_n hx hb dX9_hill_46 rfl (lv_at hl 0 rfl) ?_
    refine r_get cx hw in_X9 0 (ci := 8) (T := TX9) (N := 13) rfl rfl 0 (by decide) q1169 (fun _ h9 => h9) rfl dX9_hill_47 ?_
    refine lv_aload_n hx hb dX9_hill_50 rfl (lv_at hl 0 rfl) ?_
    refine r_get cx hw in_X9 0 (ci := 8) (T := TX9) (N := 13) rfl rfl 3 (by decide) q1172 (fun _ h9 => h9) rfl dX9_hill_51 ?_
    refine r_det (r_S cx hw (kX9_copies l hl9 g (a 1) (a 4) s wa) (va_cwS 2 hts (lw_S q1243 q1244 q94 q1245) rfl rfl rfl (by decide +kernel) ⟨Nat.le_of_ble_eq_true rfl, Nat.le_of_ble_eq_true rfl⟩) [1, 4] rfl rfl rfl hl.1 rfl (Nat.le_of_ble_eq_true rfl) dX9_hill_54 ⟨Nat.le_of_ble_eq_true rfl, Nat.le_of_ble_eq_true rfl⟩) cx hw [1, 4] rfl rfl rfl (ws' := WM g a s m im s L R rf nn hi (nI M) rn x sd) (rfl) (fun H locs hw => ?_)
    refine W.eq (g2 := F0 m9 57 ls []) rfl ?_
    refine lv_aload_n hx hb dX9_hill_57 rfl (lv_at hl 0 rfl) ?_
    refine lv_iconst (v := 0) hx hb dX9_hill_58 (by decide) ?_
    refine r_put cx hw in_X9 tyX9 tyX9_ok nmX9 0 (ci := 8) (T := TX9) (N := 13) rfl rfl 10 (by decide) q1179 (fun _ h9 => h9) rfl (rfl) (rfl) (Nat.le_of_ble_eq_true rfl) dX9_hill_59 (fun H locs hw => ?_)
    have hw : WS g A9 s9.heap (WM g a s m im s L R rf nn hi (nI M) rn 0 sd) H locs := hw
    refine lv_iload_n hx hb dX9_hill_62 rfl (lv_at hl 2 rfl) ?_
    refine lv_bipush (v := (-9)) hx hb dX9_hill_63 (by decide) ?_
    refine lv_icmp_ne (tgt := 128) hx hb dX9_hill_65 (by decide) (fun _ => ?_) (fun c => absurd c hF)
    refine lv_aload_n hx hb dX9_hill_128 rfl (lv_at hl 0 rfl) ?_
    refine lv_iconst (v := 0) hx hb dX9_hill_129 (by decide) ?_
    refine r_put cx hw in_X9 tyX9 tyX9_ok nmX9 0 (ci := 8) (T := TX9) (N := 13) rfl rfl 8 (by decide) q1177 (fun _ h9 => h9) rfl (rfl) (rfl) (Nat.le_of_ble_eq_true rfl) dX9_hill_130 (fun H locs hw => ?_)
    have hw : WS g A9 s9.heap (WM g a s m im s L R rf nn hi 0 rn 0 sd) H locs := hw
    refine lv_iload_n hx hb dX9_hill_133 rfl (lv_at hl 2 rfl) ?_
    refine lv_bipush (v := (-9)) hx hb dX9_hill_134 (by decide) ?_
    refine lv_icmp_ne (tgt := 143) hx hb dX9_hill_136 (by decide) (fun _ => ?_) (fun c => absurd c hF)
    refine lv_iload_n hx hb dX9_hill_143 rfl (lv_at hl 2 rfl) ?_
    exact r_iret cx hw (⟨(s, nn, 0), by rw [hl8], by rw [hl8]⟩) (Nat.le_of_ble_eq_true rfl) (Nat.le_of_ble_eq_true rfl) dX9_hill_144
  have J10 : ∀ (n9 n : Nat) (k : Nat) (nn : Nat → Int32), n ≤ (M + 1) → (M + 1) < n9 + n → k ≤ 900 → 3 * n ≤ k → (n = 0 ∨ k < M) → scR L M (M + 1) 0 0 = scR L M (M + 1 - n) k n → ∀ (H : Heap) (locs : List Loc) (ls : Array Slot), WS g A9 s9.heap (WM g a s m im wa L R rf nn hi (nI M) rn (nI k) sd) H locs → lv_has ls 6 [(0, .ref (a 0)), (1, .int (nI n)), (2, .int (-9))] → W p9 l e9 (rmC 6 134 0 0) s9 m9 args9 below9 meth9 c9 H locs 0 0 (vx_MQ below9 (PostA g A9 (rtE (α := (Nat → Int32) × (Nat → Int32) × Int32) (some (.int (hlF L M s).1)) (fun x9 => WM g a ((hlF L M s).2) m im x9.1 L R rf x9.2.1 hi 0 rn x9.2.2 sd))) (PxA g A9 (pxR (noX))) args9 s9 0 0 A9) (F0 m9 10 ls []) := by
    intro n9
    induction n9 with
    | zero => intro n k nn hj hk9; exact absurd hk9 (by omega)
    | succ n9 ih_J10 =>
      intro n k nn hj hk9 hk9 hnk hkM hv H locs ls hw hl
      have hsp := stP_le L M k
      refine lv_aload_n hx hb dX9_hill_10 rfl (lv_at hl 0 rfl) ?_
      refine r_detP (α := Nat → Int32) (C := fun x9 => stB L M k = true → nuOK L M k x9) (r_V cx hw (kX9_readsStatement l hl9 g a s m im wa L R rf nn hi rn sd M k (by omega) (by omega) ) (cwV 0 hts (lw_V q1221 q1223 qs66 q94 q1224) rfl rfl rfl (by decide +kernel) ⟨Nat.le_of_ble_eq_true rfl, Nat.le_of_ble_eq_true rfl⟩) (r_recv hK hw (k := 0) (ci := 8) rfl rfl) [0, 1, 2, 3, 4, 5, 6, 7, 8] rfl rfl rfl hl.1 rfl (Nat.le_of_ble_eq_true rfl) dX9_hill_11 ⟨Nat.le_of_ble_eq_true rfl, Nat.le_of_ble_eq_true rfl⟩) cx hw [0, 1, 2, 3, 4, 5, 6, 7, 8] rfl rfl (fun _ => WM_adr) (ws' := fun x9 => WM g a s m im wa L R rf x9 hi (nI M) rn (nI (stP L M k)) sd) (fun _ => rfl) (fun nn_5 H locs hnn_5 hw => ?_)
      have hnn_5 : stB L M k = true → nuOK L M k nn_5 := hnn_5
      refine W.eq (g2 := F0 m9 14 ls [.int (bI (stB L M k))]) rfl ?_
      have hw : WS g A9 s9.heap (WM g a s m im wa L R rf nn_5 hi (nI M) rn (nI (stP L M k)) sd) H locs := hw
      refine lv_if_ne (tgt := 26) hx hb dX9_hill_14 (by decide) (fun c_14 => ?_) (fun c_14 => ?_)
      · skip
        have c_14 := bI_n0 c_14
        refine lv_iinc (v := nI (n + 1)) (lv' := [(1, .int (nI (n + 1))), (0, .ref (a 0)), (2, .int (-9))]) hx hb dX9_hill_26 hl (k := 1) rfl (nI_1 n) (by decide) rfl (fun ls hl => ?_)
        refine lv_iload_n hx hb dX9_hill_29 rfl (lv_at hl 2 rfl) ?_
        refine lv_bipush (v := (-9)) hx hb dX9_hill_30 (by decide) ?_
        refine lv_icmp_ne (tgt := 46) hx hb dX9_hill_32 (by decide) (fun c => absurd rfl c) (fun _ => ?_)
        refine lv_aload_n hx hb dX9_hill_35 rfl (lv_at hl 1 rfl) ?_
        refine r_get cx hw in_X9 0 (ci := 8) (T := TX9) (N := 13) rfl rfl 10 (by decide) q1179 (fun _ h9 => h9) rfl dX9_hill_36 ?_
        refine lv_aload_n hx hb dX9_hill_39 rfl (lv_at hl 1 rfl) ?_
        refine r_get cx hw in_X9 0 (ci := 8) (T := TX9) (N := 13) rfl rfl 8 (by decide) q1177 (fun _ h9 => h9) rfl dX9_hill_40 ?_
        refine lv_icmp_lt (tgt := 10) hx hb dX9_hill_43 (by decide) (fun c_43 => ?_) (fun c_43 => ?_)
        · skip
          have c_43 : (stP L M k) < M := (nI_ltI (a := (stP L M k)) (b := M) (by omega) (by omega)).mp c_43
          have hgt := stP_gt c_14
          exact ih_J10 (n + 1) (stP L M k) nn_5 (by omega) (by omega) (by omega) (by omega) (Or.inr c_43) (hv.trans (by rw [show M + 1 - n = M - n + 1 by omega, show M + 1 - (n + 1) = M - n by omega, scR, if_pos c_14, if_pos c_43])) _ _ _ (hw) (lv_sub hl [1, 0, 2] rfl)
        · skip
          have c_43 : M ≤ (stP L M k) := Nat.not_lt.mp (fun h9 => c_43 ((nI_ltI (a := (stP L M k)) (b := M) (by omega) (by omega)).mpr h9))
          exact J46 _ _ _ _ (hv.trans (by rw [show M + 1 - n = M - n + 1 by omega, scR, if_pos c_14, if_neg (by omega)])) _ _ _ hw (lv_sub hl [1, 0, 2] rfl)
      · skip
        have c_14 := bI_e0 c_14
        refine lv_sipush (v := (-1000)) hx hb dX9_hill_17 (by decide) ?_
        refine lv_aload_n hx hb dX9_hill_20 rfl (lv_at hl 0 rfl) ?_
        refine r_get cx hw in_X9 0 (ci := 8) (T := TX9) (N := 13) rfl rfl 10 (by decide) q1179 (fun _ h9 => h9) rfl dX9_hill_21 ?_
        refine lv_isub hx hb dX9_hill_24 ?_
        refine lv_istore_n (lv' := [(2, .int ((-1000) - (nI (stP L M k)))), (0, .ref (a 0)), (1, .int (nI n))]) hx hb dX9_hill_25 rfl hl (by decide) rfl (fun ls hl => ?_)
        refine lv_iinc (v := nI (n + 1)) (lv' := [(1, .int (nI (n + 1))), (2, .int ((-1000) - (nI (stP L M k)))), (0, .ref (a 0))]) hx hb dX9_hill_26 hl (k := 2) rfl (nI_1 n) (by decide) rfl (fun ls hl => ?_)
        refine lv_iload_n hx hb dX9_hill_29 rfl (lv_at hl 1 rfl) ?_
        refine lv_bipush (v := (-9)) hx hb dX9_hill_30 (by decide) ?_
        refine lv_icmp_ne (tgt := 46) hx hb dX9_hill_32 (by decide) (fun _ => ?_) (fun c => absurd c (m1000 (by omega)))
        exact J46 _ _ _ _ (hv.trans (by rw [show M + 1 - n = M - n + 1 by omega, scR, if_neg (by rw [c_14]; decide)])) _ _ _ hw (lv_sub hl [2, 0, 1] rfl)
  refine lv_aload_n hx hb dX9_hill_0 rfl (lv_at hl 0 rfl) ?_
  refine lv_iconst (v := 0) hx hb dX9_hill_1 (by decide) ?_
  refine r_put cx hw in_X9 tyX9 tyX9_ok nmX9 0 (ci := 8) (T := TX9) (N := 13) rfl rfl 10 (by decide) q1179 (fun _ h9 => h9) rfl (rfl) (rfl) (Nat.le_of_ble_eq_true rfl) dX9_hill_2 (fun H locs hw => ?_)
  have hw : WS g A9 s9.heap (WM g a s m im wa L R rf nu hi (nI M) rn 0 sd) H locs := hw
  refine lv_iconst (v := 0) hx hb dX9_hill_5 (by decide) ?_
  refine lv_istore_n (lv' := [(1, .int 0), (0, .ref (a 0))]) hx hb dX9_hill_6 rfl hl (by decide) rfl (fun ls hl => ?_)
  refine lv_bipush (v := (-9)) hx hb dX9_hill_7 (by decide) ?_
  refine lv_istore_n (lv' := [(2, .int (-9)), (1, .int 0), (0, .ref (a 0))]) hx hb dX9_hill_9 rfl hl (by decide) rfl (fun ls hl => ?_)
  exact J10 ((M + 1) + 1) 0 0 nu (by omega) (by omega) (by omega) (by omega) (Or.inl rfl) rfl _ _ _ (hw) (lv_sub hl [2, 1, 0] rfl)
