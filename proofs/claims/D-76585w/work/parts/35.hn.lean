/-! the hill: its methods, 2 -/
set_option maxRecDepth 100000
set_option maxHeartbeats 4000000 in
set_option maxRecDepth 100000 in
theorem kX8_hourOn (l : Launch) (hl9 : l.stackTraces = false) (g : GG) (b q : Nat → Nat) (r : Nat → Int32) (z : Int32) (hI : InvX r)  : MC l yX8_hourOn cX8_hourOn 3 none 4 84 0 0 g [.ref (b 0)] (HX g b q r z) (rt none (HX g b q (hourF r z) z)) (noX) := by
  refine MC.of (by decide) (Nat.le_of_ble_eq_true rfl) ?_
  intro p9 e9 s9 m9 args9 below9 meth9 c9 A9 ls cx htab hw hl
  have hx := cx.1
  have hb := cx.2.1
  have hts := cx.2.2.2.2.1
  have hK := cx.2.2.2.2.2.2.2.1
  have hl : lv_has ls 3 [(0, .ref (b 0))] := hl
  have hw : WS g A9 s9.heap (HG g b q (r 0) (flgF r 4) (flgF r 5) (r 2) (r 3) (r 1) (r 4) z (kdc q r) (colv r 1) (colv r 2) (colv r 3) (colv r 6)) s9.heap [] := hw
  have hN := hI.1.1
  have hA := hrA_I hI
  have nA := nN_hrA r
  have J161 : ∀ (H : Heap) (locs : List Loc) (ls : Array Slot), WS g A9 s9.heap (HG g b q ((hrC r z) 0) (flgF (hrC r z) 4) (flgF (hrC r z) 5) ((hrC r z) 2) ((hrC r z) 3) ((hrC r z) 1) ((hrC r z) 4) z (kdc q (hrC r z)) (colv (hrC r z) 1) (colv (hrC r z) 2) (colv (hrC r z) 3) (colv (hrC r z) 6)) H locs → lv_has ls 3 [(0, .ref (b 0))] → W p9 l e9 (rmC 4 84 0 0) s9 m9 args9 below9 meth9 c9 H locs 0 0 (vx_MQ below9 (PostA g A9 (rt none (HX g b q (hourF r z) z))) (PxA g A9 (pxR (noX))) args9 s9 0 0 A9) (F0 m9 161 ls []) := by
    intro H locs ls hw hl
    refine lv_aload_n hx hb dX8_hourOn_161 rfl (lv_at hl 0 rfl) ?_
    refine lv_dup hx hb dX8_hourOn_162 rfl ?_
    refine r_get cx hw in_X8 0 (ci := 1) (T := TX8) (N := 13) rfl rfl 10 (by decide) q203 (fun _ h9 => h9) rfl dX8_hourOn_163 ?_
    refine lv_iconst (v := 1) hx hb dX8_hourOn_166 (by decide) ?_
    refine lv_iadd hx hb dX8_hourOn_167 ?_
    refine r_put cx hw in_X8 tyX8 tyX8_ok nmX8 0 (ci := 1) (T := TX8) (N := 13) rfl rfl 10 (by decide) q203 (fun _ h9 => h9) rfl (rfl) (rfl) (Nat.le_of_ble_eq_true rfl) dX8_hourOn_168 (fun H locs hw => ?_)
    have hw : WS g A9 s9.heap (HG g b q ((hrC r z) 0) (flgF (hrC r z) 4) (flgF (hrC r z) 5) ((hrC r z) 2) ((hrC r z) 3) (((hrC r z) 1) + 1) ((hrC r z) 4) z (kdc q (hrC r z)) (colv (hrC r z) 1) (colv (hrC r z) 2) (colv (hrC r z) 3) (colv (hrC r z) 6)) H locs := hw
    have hw : WS g A9 s9.heap (HX g b q (hourF r z) z) H locs := WS.to hw (HX_v1)
    have hw : WS g A9 s9.heap (HG g b q ((hourF r z) 0) (flgF (hourF r z) 4) (flgF (hourF r z) 5) ((hourF r z) 2) ((hourF r z) 3) ((hourF r z) 1) ((hourF r z) 4) z (kdc q (hourF r z)) (colv (hourF r z) 1) (colv (hourF r z) 2) (colv (hourF r z) 3) (colv (hourF r z) 6)) H locs := hw
    exact r_vret cx hw (⟨rfl, rfl⟩) (Nat.le_of_ble_eq_true rfl) (Nat.le_of_ble_eq_true rfl) dX8_hourOn_171
  have J115 : ∀ (H : Heap) (locs : List Loc) (ls : Array Slot), WS g A9 s9.heap (HG g b q ((hrB r z) 0) (flgF (hrB r z) 4) (flgF (hrB r z) 5) ((hrB r z) 2) ((hrB r z) 3) ((hrB r z) 1) ((hrB r z) 4) z (kdc q (hrB r z)) (colv (hrB r z) 1) (colv (hrB r z) 2) (colv (hrB r z) 3) (colv (hrB r z) 6)) H locs → lv_has ls 3 [(0, .ref (b 0)), (1, .int (irem (r 1) 12)), (2, .int (nI 0))] → W p9 l e9 (rmC 4 84 0 0) s9 m9 args9 below9 meth9 c9 H locs 0 0 (vx_MQ below9 (PostA g A9 (rt none (HX g b q (hourF r z) z))) (PxA g A9 (pxR (noX))) args9 s9 0 0 A9) (F0 m9 115 ls []) := by
    intro H locs ls hw hl
    have hT := hrB_I hI z
    have nT := nN_hrB r z
    by_cases hE : irem (r 1) 12 = 11
    · skip
      have J : ∀ (n9 j : Nat) , j ≤ nN r → nN r < n9 + j → ∀ (H : Heap) (locs : List Loc) (ls : Array Slot), WS g A9 s9.heap (HG g b q ((drkF (hrB r z) j) 0) (flgF (drkF (hrB r z) j) 4) (flgF (drkF (hrB r z) j) 5) ((drkF (hrB r z) j) 2) ((drkF (hrB r z) j) 3) ((drkF (hrB r z) j) 1) ((drkF (hrB r z) j) 4) z (kdc q (drkF (hrB r z) j)) (colv (drkF (hrB r z) j) 1) (colv (drkF (hrB r z) j) 2) (colv (drkF (hrB r z) j) 3) (colv (drkF (hrB r z) j) 6)) H locs → lv_has ls 3 [(0, .ref (b 0)), (1, .int (irem (r 1) 12)), (2, .int (nI j))] → W p9 l e9 (rmC 4 84 0 0) s9 m9 args9 below9 meth9 c9 H locs 0 0 (vx_MQ below9 (PostA g A9 (rt none (HX g b q (hourF r z) z))) (PxA g A9 (pxR (noX))) args9 s9 0 0 A9) (F0 m9 115 ls []) := by
        intro n9
        induction n9 with
        | zero => intro j  hj hk9; exact absurd hk9 (by omega)
        | succ n9 ih_J =>
          intro j  hj hk9  H locs ls hw hl
          refine lv_iload_n hx hb dX8_hourOn_115 rfl (lv_at hl 2 rfl) ?_
          refine lv_aload_n hx hb dX8_hourOn_116 rfl (lv_at hl 0 rfl) ?_
          refine r_get cx hw in_X8 0 (ci := 1) (T := TX8) (N := 13) rfl rfl 0 (by decide) q176 (fun _ h9 => h9) rfl dX8_hourOn_117 ?_
          refine r_topi (x' := nI (nN r)) ((drkF_k _ j kpt_0).trans ((hrB_k r z kpt_0).trans hI.1.2.1)) ?_
          refine lv_icmp_ge (tgt := 161) hx hb dX8_hourOn_120 (by decide) (fun c_120 => ?_) (fun c_120 => ?_)
          · skip
            have c_120 : (nN r) ≤ j := (nI_leI (a := (nN r)) (b := j) (by omega) (by omega)).mp c_120
            have e9 : j = nN r := by omega
            exact J161 _ _ _ (WS.to hw (by rw [hrC, if_pos hE, e9])) (lv_sub hl [0] rfl)
          · skip
            have c_120 : j < (nN r) := Nat.not_le.mp (fun h9 => c_120 ((nI_leI (a := (nN r)) (b := j) (by omega) (by omega)).mpr h9))
            refine lv_iload_n hx hb dX8_hourOn_123 rfl (lv_at hl 1 rfl) ?_
            refine lv_bipush (v := 11) hx hb dX8_hourOn_124 (by decide) ?_
            refine lv_icmp_ne (tgt := 161) hx hb dX8_hourOn_126 (by decide) (fun c_9 => absurd hE c_9) (fun c_9 => ?_)
            have hj9 : j < nN (drkF (hrB r z) j) := by rw [nN_drkF, nT]; omega
            have hR := drkF_I hT j (by omega)
            refine lv_aload_n hx hb dX8_hourOn_129 rfl (lv_at hl 0 rfl) ?_
            refine r_get cx hw in_X8 0 (ci := 1) (T := TX8) (N := 13) rfl rfl 4 (by decide) q185 (fun _ h9 => h9) rfl dX8_hourOn_130 ?_
            refine lv_iload_n hx hb dX8_hourOn_133 rfl (lv_at hl 2 rfl) ?_
            refine lv_iconst (v := 0) hx hb dX8_hourOn_134 (by decide) ?_
            refine lv_aload_n hx hb dX8_hourOn_135 rfl (lv_at hl 0 rfl) ?_
            refine r_get cx hw in_X8 0 (ci := 1) (T := TX8) (N := 13) rfl rfl 4 (by decide) q185 (fun _ h9 => h9) rfl dX8_hourOn_136 ?_
            refine lv_iload_n hx hb dX8_hourOn_139 rfl (lv_at hl 2 rfl) ?_
            refine r_iald cx hw 4 rfl j rfl (by omega) (Nat.le_of_ble_eq_true rfl) dX8_hourOn_140 ?_
            refine r_topi (x' := (drkF (hrB r z) j) (5 + 7 * j + 3)) (rfl) ?_
            refine lv_aload_n hx hb dX8_hourOn_141 rfl (lv_at hl 0 rfl) ?_
            refine r_get cx hw in_X8 0 (ci := 1) (T := TX8) (N := 13) rfl rfl 1 (by decide) q179 (fun _ h9 => h9) rfl dX8_hourOn_142 ?_
            refine lv_iload_n hx hb dX8_hourOn_145 rfl (lv_at hl 2 rfl) ?_
            refine r_aldK cx hw 1 rfl j rfl (by omega) (Nat.le_of_ble_eq_true rfl) (kdc_p hj9) dX8_hourOn_146 ?_
            have hr9_2 : ∀ k9 : Nat, k9 < 6 → vx_Run p9 l e9 (rmC 4 84 0 0) s9 m9 args9 below9 meth9 c9 H locs 0 0 0 0 (F0 m9 147 ls [.ref (q k9), .int ((drkF (hrB r z) j) (5 + 7 * j + 3)), .int 0, .int (nI j), .ref (b 4)]) [.int ((drkF (hrB r z) j) (5 + 7 * j + 3)), .int 0, .int (nI j), .ref (b 4)] (PostA g (va_A (KW q) H.size) (rt (some (.int (drB (nI k9)))) (KW q)) (Value.ref (q k9) :: []).toArray) (PxA g (va_A (KW q) H.size) (pxR noX)) (va_A (KW q) H.size) := by
              intro k9 hk9
              match k9, hk9 with
              | 0, _ => exact r_U cx hw (kX2_drinks l hl9 g q 0 _ rfl rfl ) (va_cwA 0 hts (lw_U q676 q678 q688 q683 q87 q684) rfl rfl rfl (hK.2.1 _ q677 rfl) (by decide +kernel) ⟨Nat.le_of_ble_eq_true rfl, Nat.le_of_ble_eq_true rfl⟩) (r_recv hK hw (k := 6) (ci := 2) rfl rfl) [6, 7, 8, 9, 10, 11] rfl rfl rfl hl.1 rfl (Nat.le_of_ble_eq_true rfl) dX8_hourOn_147 ⟨Nat.le_of_ble_eq_true rfl, Nat.le_of_ble_eq_true rfl⟩
              | 1, _ => exact r_U cx hw (kX3_drinks l hl9 g q 1 _ rfl rfl ) (va_cwA 0 hts (lw_U q676 q678 q694 q686 q88 q687) rfl rfl rfl (hK.2.1 _ q677 rfl) (by decide +kernel) ⟨Nat.le_of_ble_eq_true rfl, Nat.le_of_ble_eq_true rfl⟩) (r_recv hK hw (k := 7) (ci := 3) rfl rfl) [6, 7, 8, 9, 10, 11] rfl rfl rfl hl.1 rfl (Nat.le_of_ble_eq_true rfl) dX8_hourOn_147 ⟨Nat.le_of_ble_eq_true rfl, Nat.le_of_ble_eq_true rfl⟩
              | 2, _ => exact r_U cx hw (kX4_drinks l hl9 g q 2 _ rfl rfl ) (va_cwA 0 hts (lw_U q676 q678 q693 q680 q89 q681) rfl rfl rfl (hK.2.1 _ q677 rfl) (by decide +kernel) ⟨Nat.le_of_ble_eq_true rfl, Nat.le_of_ble_eq_true rfl⟩) (r_recv hK hw (k := 8) (ci := 4) rfl rfl) [6, 7, 8, 9, 10, 11] rfl rfl rfl hl.1 rfl (Nat.le_of_ble_eq_true rfl) dX8_hourOn_147 ⟨Nat.le_of_ble_eq_true rfl, Nat.le_of_ble_eq_true rfl⟩
              | 3, _ => exact r_U cx hw (kX3_drinks l hl9 g q 3 _ rfl rfl ) (va_cwA 0 hts (lw_U q676 q678 q685 q686 q88 q687) rfl rfl rfl (hK.2.1 _ q677 rfl) (by decide +kernel) ⟨Nat.le_of_ble_eq_true rfl, Nat.le_of_ble_eq_true rfl⟩) (r_recv hK hw (k := 9) (ci := 5) rfl rfl) [6, 7, 8, 9, 10, 11] rfl rfl rfl hl.1 rfl (Nat.le_of_ble_eq_true rfl) dX8_hourOn_147 ⟨Nat.le_of_ble_eq_true rfl, Nat.le_of_ble_eq_true rfl⟩
              | 4, _ => exact r_U cx hw (kX6_drinks l hl9 g q 4 _ rfl rfl ) (va_cwA 0 hts (lw_U q676 q678 q689 q690 q91 q691) rfl rfl rfl (hK.2.1 _ q677 rfl) (by decide +kernel) ⟨Nat.le_of_ble_eq_true rfl, Nat.le_of_ble_eq_true rfl⟩) (r_recv hK hw (k := 10) (ci := 6) rfl rfl) [6, 7, 8, 9, 10, 11] rfl rfl rfl hl.1 rfl (Nat.le_of_ble_eq_true rfl) dX8_hourOn_147 ⟨Nat.le_of_ble_eq_true rfl, Nat.le_of_ble_eq_true rfl⟩
              | 5, _ => exact r_U cx hw (kX4_drinks l hl9 g q 5 _ rfl rfl ) (va_cwA 0 hts (lw_U q676 q678 q679 q680 q89 q681) rfl rfl rfl (hK.2.1 _ q677 rfl) (by decide +kernel) ⟨Nat.le_of_ble_eq_true rfl, Nat.le_of_ble_eq_true rfl⟩) (r_recv hK hw (k := 11) (ci := 7) rfl rfl) [6, 7, 8, 9, 10, 11] rfl rfl rfl hl.1 rfl (Nat.le_of_ble_eq_true rfl) dX8_hourOn_147 ⟨Nat.le_of_ble_eq_true rfl, Nat.le_of_ble_eq_true rfl⟩
              | n9 + 6, h9 => exact absurd h9 (by omega)
            refine r_det (hr9_2 (kN (drkF (hrB r z) j) j) (hR.kind hj9).1) cx hw [6, 7, 8, 9, 10, 11] rfl rfl rfl (ws' := HG g b q ((drkF (hrB r z) j) 0) (flgF (drkF (hrB r z) j) 4) (flgF (drkF (hrB r z) j) 5) ((drkF (hrB r z) j) 2) ((drkF (hrB r z) j) 3) ((drkF (hrB r z) j) 1) ((drkF (hrB r z) j) 4) z (kdc q (drkF (hrB r z) j)) (colv (drkF (hrB r z) j) 1) (colv (drkF (hrB r z) j) 2) (colv (drkF (hrB r z) j) 3) (colv (drkF (hrB r z) j) 6)) rfl (fun H locs hw => ?_)
            refine W.eq (g2 := F0 m9 150 ls [.int (drB (nI (kN (drkF (hrB r z) j) j))), .int ((drkF (hrB r z) j) (5 + 7 * j + 3)), .int 0, .int (nI j), .ref (b 4)]) rfl ?_
            refine lv_isub hx hb dX8_hourOn_150 ?_
            refine r_topi (x' := (drkF (hrB r z) j) (5 + 7 * j + 3) - drB ((drkF (hrB r z) j) (5 + 7 * j))) (by rw [← (hR.kind hj9).2]) ?_
            refine va_mmax hx hb (cx.2.2.1.trans hl.1.symm) cx.2.2.2.1 (hts _ q695) (hts _ q696) (hts _ q112) (hts _ q697) (Nat.le_of_ble_eq_true rfl) (Nat.le_of_ble_eq_true rfl) (Nat.le_of_ble_eq_true rfl) (Nat.le_of_ble_eq_true rfl) dX8_hourOn_151 ?_
            refine r_topi (x' := maxI 0 ((drkF (hrB r z) j) (5 + 7 * j + 3) - drB ((drkF (hrB r z) j) (5 + 7 * j)))) (rfl) ?_
            refine r_iast cx hw 4 rfl j rfl (by omega) (Nat.le_of_ble_eq_true rfl) dX8_hourOn_154 (fun H locs hw => ?_)
            have hw : WS g A9 s9.heap (HG g b q ((drkF (hrB r z) j) 0) (flgF (drkF (hrB r z) j) 4) (flgF (drkF (hrB r z) j) 5) ((drkF (hrB r z) j) 2) ((drkF (hrB r z) j) 3) ((drkF (hrB r z) j) 1) ((drkF (hrB r z) j) 4) z (kdc q (drkF (hrB r z) j)) (colv (drkF (hrB r z) j) 1) (colv (drkF (hrB r z) j) 2) (upd (colv (drkF (hrB r z) j) 3) j (maxI 0 ((drkF (hrB r z) j) (5 + 7 * j + 3) - drB ((drkF (hrB r z) j) (5 + 7 * j))))) (colv (drkF (hrB r z) j) 6)) H locs := hw
            refine lv_iinc (v := nI (j + 1)) (lv' := [(2, .int (nI (j + 1))), (0, .ref (b 0)), (1, .int (irem (r 1) 12))]) hx hb dX8_hourOn_155 hl (k := 2) rfl (nI_1 j) (by decide) rfl (fun ls hl => ?_)
            refine lv_goto (tgt := 115) hx hb dX8_hourOn_158 (by decide) ?_
            exact ih_J (j + 1)  (by omega) (by omega)  _ _ _ (WS.to hw (by rw [maxI_dk]; exact HX_c3)) (lv_sub hl [1, 2, 0] rfl)
      exact J (nN r + 1) 0 (by omega) (by omega) H locs ls hw hl
    refine lv_iload_n hx hb dX8_hourOn_115 rfl (lv_at hl 2 rfl) ?_
    refine lv_aload_n hx hb dX8_hourOn_116 rfl (lv_at hl 0 rfl) ?_
    refine r_get cx hw in_X8 0 (ci := 1) (T := TX8) (N := 13) rfl rfl 0 (by decide) q176 (fun _ h9 => h9) rfl dX8_hourOn_117 ?_
    refine r_topi (x' := nI (nN r)) ((hrB_k r z kpt_0).trans hI.1.2.1) ?_
    refine lv_icmp_ge (tgt := 161) hx hb dX8_hourOn_120 (by decide) (fun c_120 => ?_) (fun c_120 => ?_)
    · skip
      have c_120 : (nN r) ≤ 0 := (nI_leI (a := (nN r)) (b := 0) (by omega) (by omega)).mp c_120
      exact J161 _ _ _ (WS.to hw (by rw [hrC, if_neg hE])) (lv_sub hl [0] rfl)
    · skip
      have c_120 : 0 < (nN r) := Nat.not_le.mp (fun h9 => c_120 ((nI_leI (a := (nN r)) (b := 0) (by omega) (by omega)).mpr h9))
      refine lv_iload_n hx hb dX8_hourOn_123 rfl (lv_at hl 1 rfl) ?_
      refine lv_bipush (v := 11) hx hb dX8_hourOn_124 (by decide) ?_
      refine lv_icmp_ne (tgt := 161) hx hb dX8_hourOn_126 (by decide) (fun c_9 => ?_) (fun c_9 => absurd c_9 hE)
      exact J161 _ _ _ (WS.to hw (by rw [hrC, if_neg hE])) (lv_sub hl [0] rfl)
  have J94 : ∀ (H : Heap) (locs : List Loc) (ls : Array Slot), WS g A9 s9.heap (HG g b q ((spkF z (irem (r 1) 12) (hrA r) (nN r)) 0) (flgF (spkF z (irem (r 1) 12) (hrA r) (nN r)) 4) (flgF (spkF z (irem (r 1) 12) (hrA r) (nN r)) 5) ((spkF z (irem (r 1) 12) (hrA r) (nN r)) 2) ((spkF z (irem (r 1) 12) (hrA r) (nN r)) 3) ((spkF z (irem (r 1) 12) (hrA r) (nN r)) 1) ((spkF z (irem (r 1) 12) (hrA r) (nN r)) 4) z (kdc q (spkF z (irem (r 1) 12) (hrA r) (nN r))) (colv (spkF z (irem (r 1) 12) (hrA r) (nN r)) 1) (colv (spkF z (irem (r 1) 12) (hrA r) (nN r)) 2) (colv (spkF z (irem (r 1) 12) (hrA r) (nN r)) 3) (colv (spkF z (irem (r 1) 12) (hrA r) (nN r)) 6)) H locs → lv_has ls 3 [(0, .ref (b 0)), (1, .int (irem (r 1) 12)), (2, .int (nI 0))] → W p9 l e9 (rmC 4 84 0 0) s9 m9 args9 below9 meth9 c9 H locs 0 0 (vx_MQ below9 (PostA g A9 (rt none (HX g b q (hourF r z) z))) (PxA g A9 (pxR (noX))) args9 s9 0 0 A9) (F0 m9 94 ls []) := by
    intro H locs ls hw hl
    have J : ∀ (n9 j : Nat) , j ≤ nN r → nN r < n9 + j → ∀ (H : Heap) (locs : List Loc) (ls : Array Slot), WS g A9 s9.heap (HG g b q ((drwF (spkF z (irem (r 1) 12) (hrA r) (nN r)) j) 0) (flgF (drwF (spkF z (irem (r 1) 12) (hrA r) (nN r)) j) 4) (flgF (drwF (spkF z (irem (r 1) 12) (hrA r) (nN r)) j) 5) ((drwF (spkF z (irem (r 1) 12) (hrA r) (nN r)) j) 2) ((drwF (spkF z (irem (r 1) 12) (hrA r) (nN r)) j) 3) ((drwF (spkF z (irem (r 1) 12) (hrA r) (nN r)) j) 1) ((drwF (spkF z (irem (r 1) 12) (hrA r) (nN r)) j) 4) z (kdc q (drwF (spkF z (irem (r 1) 12) (hrA r) (nN r)) j)) (colv (drwF (spkF z (irem (r 1) 12) (hrA r) (nN r)) j) 1) (colv (drwF (spkF z (irem (r 1) 12) (hrA r) (nN r)) j) 2) (colv (drwF (spkF z (irem (r 1) 12) (hrA r) (nN r)) j) 3) (colv (drwF (spkF z (irem (r 1) 12) (hrA r) (nN r)) j) 6)) H locs → lv_has ls 3 [(0, .ref (b 0)), (1, .int (irem (r 1) 12)), (2, .int (nI j))] → W p9 l e9 (rmC 4 84 0 0) s9 m9 args9 below9 meth9 c9 H locs 0 0 (vx_MQ below9 (PostA g A9 (rt none (HX g b q (hourF r z) z))) (PxA g A9 (pxR (noX))) args9 s9 0 0 A9) (F0 m9 94 ls []) := by
      intro n9
      induction n9 with
      | zero => intro j  hj hk9; exact absurd hk9 (by omega)
      | succ n9 ih_J =>
        intro j  hj hk9  H locs ls hw hl
        refine lv_iload_n hx hb dX8_hourOn_94 rfl (lv_at hl 2 rfl) ?_
        refine lv_aload_n hx hb dX8_hourOn_95 rfl (lv_at hl 0 rfl) ?_
        refine r_get cx hw in_X8 0 (ci := 1) (T := TX8) (N := 13) rfl rfl 0 (by decide) q176 (fun _ h9 => h9) rfl dX8_hourOn_96 ?_
        refine r_topi (x' := nI (nN r)) ((drwF_k _ j kpt_0).trans ((spkF_k _ _ _ _ kpt_0).trans ((hrA_k r kpt_0).trans hI.1.2.1))) ?_
        refine lv_icmp_ge (tgt := 113) hx hb dX8_hourOn_99 (by decide) (fun c_99 => ?_) (fun c_99 => ?_)
        · skip
          have c_99 : (nN r) ≤ j := (nI_leI (a := (nN r)) (b := j) (by omega) (by omega)).mp c_99
          refine lv_iconst (v := 0) hx hb dX8_hourOn_113 (by decide) ?_
          refine lv_istore_n (lv' := [(2, .int 0), (0, .ref (b 0)), (1, .int (irem (r 1) 12))]) hx hb dX8_hourOn_114 rfl hl (by decide) rfl (fun ls hl => ?_)
          have e9 : j = nN r := by omega
          exact J115 _ _ _ (WS.to hw (by rw [hrB, e9])) (lv_sub hl [1, 2, 0] rfl)
        · skip
          have c_99 : j < (nN r) := Nat.not_le.mp (fun h9 => c_99 ((nI_leI (a := (nN r)) (b := j) (by omega) (by omega)).mpr h9))
          refine lv_aload_n hx hb dX8_hourOn_102 rfl (lv_at hl 0 rfl) ?_
          refine lv_iload_n hx hb dX8_hourOn_103 rfl (lv_at hl 2 rfl) ?_
          refine r_det (r_V cx hw (kX8_draw l hl9 g b q (drwF (spkF z (irem (r 1) 12) (hrA r) (nN r)) j) z (drwF_I (spkF_I hA _ _ _) j (by rw [nN_spkF]; omega)) j (by rw [nN_drwF, nN_spkF, nA]; omega)) (cwV 1 hts (lw_V q656 q658 qs13 q93 q659) rfl rfl rfl (by decide +kernel) ⟨Nat.le_of_ble_eq_true rfl, Nat.le_of_ble_eq_true rfl⟩) (r_recv hK hw (k := 0) (ci := 1) rfl rfl) [0, 1, 2, 3, 4, 5, 6, 7, 8, 9, 10, 11] rfl rfl rfl hl.1 rfl (Nat.le_of_ble_eq_true rfl) dX8_hourOn_104 ⟨Nat.le_of_ble_eq_true rfl, Nat.le_of_ble_eq_true rfl⟩) cx hw [0, 1, 2, 3, 4, 5, 6, 7, 8, 9, 10, 11] rfl rfl HX_adr (ws' := HG g b q ((drawF (drwF (spkF z (irem (r 1) 12) (hrA r) (nN r)) j) j) 0) (flgF (drawF (drwF (spkF z (irem (r 1) 12) (hrA r) (nN r)) j) j) 4) (flgF (drawF (drwF (spkF z (irem (r 1) 12) (hrA r) (nN r)) j) j) 5) ((drawF (drwF (spkF z (irem (r 1) 12) (hrA r) (nN r)) j) j) 2) ((drawF (drwF (spkF z (irem (r 1) 12) (hrA r) (nN r)) j) j) 3) ((drawF (drwF (spkF z (irem (r 1) 12) (hrA r) (nN r)) j) j) 1) ((drawF (drwF (spkF z (irem (r 1) 12) (hrA r) (nN r)) j) j) 4) z (kdc q (drawF (drwF (spkF z (irem (r 1) 12) (hrA r) (nN r)) j) j)) (colv (drawF (drwF (spkF z (irem (r 1) 12) (hrA r) (nN r)) j) j) 1) (colv (drawF (drwF (spkF z (irem (r 1) 12) (hrA r) (nN r)) j) j) 2) (colv (drawF (drwF (spkF z (irem (r 1) 12) (hrA r) (nN r)) j) j) 3) (colv (drawF (drwF (spkF z (irem (r 1) 12) (hrA r) (nN r)) j) j) 6)) (rfl) (fun H locs hw => ?_)
          refine W.eq (g2 := F0 m9 107 ls []) rfl ?_
          refine lv_iinc (v := nI (j + 1)) (lv' := [(2, .int (nI (j + 1))), (0, .ref (b 0)), (1, .int (irem (r 1) 12))]) hx hb dX8_hourOn_107 hl (k := 2) rfl (nI_1 j) (by decide) rfl (fun ls hl => ?_)
          refine lv_goto (tgt := 94) hx hb dX8_hourOn_110 (by decide) ?_
          exact ih_J (j + 1)  (by omega) (by omega)  _ _ _ (hw) (lv_sub hl [1, 2, 0] rfl)
    exact J (nN r + 1) 0 (by omega) (by omega) H locs ls hw hl
  have J42 : ∀ (H : Heap) (locs : List Loc) (ls : Array Slot), WS g A9 s9.heap (HG g b q ((hrA r) 0) (flgF (hrA r) 4) (flgF (hrA r) 5) ((hrA r) 2) ((hrA r) 3) ((hrA r) 1) ((hrA r) 4) z (kdc q (hrA r)) (colv (hrA r) 1) (colv (hrA r) 2) (colv (hrA r) 3) (colv (hrA r) 6)) H locs → lv_has ls 3 [(0, .ref (b 0)), (1, .int (irem (r 1) 12)), (2, .int (nI 0))] → W p9 l e9 (rmC 4 84 0 0) s9 m9 args9 below9 meth9 c9 H locs 0 0 (vx_MQ below9 (PostA g A9 (rt none (HX g b q (hourF r z) z))) (PxA g A9 (pxR (noX))) args9 s9 0 0 A9) (F0 m9 42 ls []) := by
    intro H locs ls hw hl
    have J : ∀ (n9 j : Nat) , j ≤ nN r → nN r < n9 + j → ∀ (H : Heap) (locs : List Loc) (ls : Array Slot), WS g A9 s9.heap (HG g b q ((spkF z (irem (r 1) 12) (hrA r) j) 0) (flgF (spkF z (irem (r 1) 12) (hrA r) j) 4) (flgF (spkF z (irem (r 1) 12) (hrA r) j) 5) ((spkF z (irem (r 1) 12) (hrA r) j) 2) ((spkF z (irem (r 1) 12) (hrA r) j) 3) ((spkF z (irem (r 1) 12) (hrA r) j) 1) ((spkF z (irem (r 1) 12) (hrA r) j) 4) z (kdc q (spkF z (irem (r 1) 12) (hrA r) j)) (colv (spkF z (irem (r 1) 12) (hrA r) j) 1) (colv (spkF z (irem (r 1) 12) (hrA r) j) 2) (colv (spkF z (irem (r 1) 12) (hrA r) j) 3) (colv (spkF z (irem (r 1) 12) (hrA r) j) 6)) H locs → lv_has ls 3 [(0, .ref (b 0)), (1, .int (irem (r 1) 12)), (2, .int (nI j))] → W p9 l e9 (rmC 4 84 0 0) s9 m9 args9 below9 meth9 c9 H locs 0 0 (vx_MQ below9 (PostA g A9 (rt none (HX g b q (hourF r z) z))) (PxA g A9 (pxR (noX))) args9 s9 0 0 A9) (F0 m9 42 ls []) := by
      intro n9
      induction n9 with
      | zero => intro j  hj hk9; exact absurd hk9 (by omega)
      | succ n9 ih_J =>
        intro j  hj hk9  H locs ls hw hl
        refine lv_iload_n hx hb dX8_hourOn_42 rfl (lv_at hl 2 rfl) ?_
        refine lv_aload_n hx hb dX8_hourOn_43 rfl (lv_at hl 0 rfl) ?_
        refine r_get cx hw in_X8 0 (ci := 1) (T := TX8) (N := 13) rfl rfl 0 (by decide) q176 (fun _ h9 => h9) rfl dX8_hourOn_44 ?_
        refine r_topi (x' := nI (nN r)) ((spkF_k _ _ _ _ kpt_0).trans ((hrA_k r kpt_0).trans hI.1.2.1)) ?_
        refine lv_icmp_ge (tgt := 92) hx hb dX8_hourOn_47 (by decide) (fun c_47 => ?_) (fun c_47 => ?_)
        · skip
          have c_47 : (nN r) ≤ j := (nI_leI (a := (nN r)) (b := j) (by omega) (by omega)).mp c_47
          refine lv_iconst (v := 0) hx hb dX8_hourOn_92 (by decide) ?_
          refine lv_istore_n (lv' := [(2, .int 0), (0, .ref (b 0)), (1, .int (irem (r 1) 12))]) hx hb dX8_hourOn_93 rfl hl (by decide) rfl (fun ls hl => ?_)
          have e9 : j = nN r := by omega
          exact J94 _ _ _ (WS.to hw (by rw [e9])) (lv_sub hl [1, 2, 0] rfl)
        · skip
          have c_47 : j < (nN r) := Nat.not_le.mp (fun h9 => c_47 ((nI_leI (a := (nN r)) (b := j) (by omega) (by omega)).mpr h9))
          have hR := spkF_I hA z (irem (r 1) 12) j
          have hj9 : j < nN (spkF z (irem (r 1) 12) (hrA r) j) := by rw [nN_spkF, nA]; omega
          refine lv_aload_n hx hb dX8_hourOn_50 rfl (lv_at hl 0 rfl) ?_
          refine lv_dup hx hb dX8_hourOn_51 rfl ?_
          refine r_get cx hw in_X8 0 (ci := 1) (T := TX8) (N := 13) rfl rfl 6 (by decide) q192 (fun _ h9 => h9) rfl dX8_hourOn_52 ?_
          refine lv_aload_n hx hb dX8_hourOn_55 rfl (lv_at hl 0 rfl) ?_
          refine lv_iload_n hx hb dX8_hourOn_56 rfl (lv_at hl 2 rfl) ?_
          refine r_det (r_V cx hw (kX8_speaksIn l hl9 g b q (spkF z (irem (r 1) 12) (hrA r) j) z hR j hj9) (cwV 1 hts (lw_V q626 q627 q628 q93 q629) rfl rfl rfl (by decide +kernel) ⟨Nat.le_of_ble_eq_true rfl, Nat.le_of_ble_eq_true rfl⟩) (r_recv hK hw (k := 0) (ci := 1) rfl rfl) [0, 1, 2, 3, 4, 5, 6, 7, 8, 9, 10, 11] rfl rfl rfl hl.1 rfl (Nat.le_of_ble_eq_true rfl) dX8_hourOn_57 ⟨Nat.le_of_ble_eq_true rfl, Nat.le_of_ble_eq_true rfl⟩) cx hw [0, 1, 2, 3, 4, 5, 6, 7, 8, 9, 10, 11] rfl rfl HX_adr (ws' := HG g b q ((spkF z (irem (r 1) 12) (hrA r) j) 0) (flgF (spkF z (irem (r 1) 12) (hrA r) j) 4) (flgF (spkF z (irem (r 1) 12) (hrA r) j) 5) ((spkF z (irem (r 1) 12) (hrA r) j) 2) ((spkF z (irem (r 1) 12) (hrA r) j) 3) ((spkF z (irem (r 1) 12) (hrA r) j) 1) ((spkF z (irem (r 1) 12) (hrA r) j) 4) z (kdc q (spkF z (irem (r 1) 12) (hrA r) j)) (colv (spkF z (irem (r 1) 12) (hrA r) j) 1) (colv (spkF z (irem (r 1) 12) (hrA r) j) 2) (colv (spkF z (irem (r 1) 12) (hrA r) j) 3) (colv (spkF z (irem (r 1) 12) (hrA r) j) 6)) (rfl) (fun H locs hw => ?_)
          refine W.eq (g2 := F0 m9 60 ls [.int (spI (spkF z (irem (r 1) 12) (hrA r) j) j), .int (flgF (spkF z (irem (r 1) 12) (hrA r) j) 4), .ref (b 0)]) rfl ?_
          refine lv_iload_n hx hb dX8_hourOn_60 rfl (lv_at hl 1 rfl) ?_
          refine lv_icmp_eq (tgt := 75) hx hb dX8_hourOn_61 (by decide) (fun c_61 => ?_) (fun c_61 => ?_)
          · skip
            refine lv_iconst (v := 1) hx hb dX8_hourOn_75 (by decide) ?_
            refine lv_iload_n hx hb dX8_hourOn_76 rfl (lv_at hl 2 rfl) ?_
            refine lv_ishl hx hb dX8_hourOn_77 ?_
            refine lv_goto (tgt := 82) hx hb dX8_hourOn_78 (by decide) ?_
            refine lv_ior hx hb dX8_hourOn_82 ?_
            refine r_put cx hw in_X8 tyX8 tyX8_ok nmX8 0 (ci := 1) (T := TX8) (N := 13) rfl rfl 6 (by decide) q192 (fun _ h9 => h9) rfl (rfl) (rfl) (Nat.le_of_ble_eq_true rfl) dX8_hourOn_83 (fun H locs hw => ?_)
            have hw : WS g A9 s9.heap (HG g b q ((spkF z (irem (r 1) 12) (hrA r) j) 0) ((flgF (spkF z (irem (r 1) 12) (hrA r) j) 4) ||| ((1 : Int32) <<< ((nI j) &&& 31))) (flgF (spkF z (irem (r 1) 12) (hrA r) j) 5) ((spkF z (irem (r 1) 12) (hrA r) j) 2) ((spkF z (irem (r 1) 12) (hrA r) j) 3) ((spkF z (irem (r 1) 12) (hrA r) j) 1) ((spkF z (irem (r 1) 12) (hrA r) j) 4) z (kdc q (spkF z (irem (r 1) 12) (hrA r) j)) (colv (spkF z (irem (r 1) 12) (hrA r) j) 1) (colv (spkF z (irem (r 1) 12) (hrA r) j) 2) (colv (spkF z (irem (r 1) 12) (hrA r) j) 3) (colv (spkF z (irem (r 1) 12) (hrA r) j) 6)) H locs := hw
            refine lv_iinc (v := nI (j + 1)) (lv' := [(2, .int (nI (j + 1))), (0, .ref (b 0)), (1, .int (irem (r 1) 12))]) hx hb dX8_hourOn_86 hl (k := 2) rfl (nI_1 j) (by decide) rfl (fun ls hl => ?_)
            refine lv_goto (tgt := 42) hx hb dX8_hourOn_89 (by decide) ?_
            exact ih_J (j + 1)  (by omega) (by omega)  _ _ _ (WS.to hw (by rw [spkF_s, if_pos (Or.inl c_61)]; exact HX_4 hR hj9)) (lv_sub hl [1, 2, 0] rfl)
          · skip
            refine lv_aload_n hx hb dX8_hourOn_64 rfl (lv_at hl 0 rfl) ?_
            refine r_get cx hw in_X8 0 (ci := 1) (T := TX8) (N := 13) rfl rfl 12 (by decide) q207 (fun _ h9 => h9) rfl dX8_hourOn_65 ?_
            refine lv_iload_n hx hb dX8_hourOn_68 rfl (lv_at hl 2 rfl) ?_
            refine r_det (r_SN cx hw (kX0_has l hl9 g z (nI j)) (⟨r_cN 2 hts hK q632 q630 q85 (by decide +kernel) ⟨Nat.le_of_ble_eq_true rfl, Nat.le_of_ble_eq_true rfl⟩, hts _ q631, trivial⟩) [] rfl rfl rfl hl.1 rfl (Nat.le_of_ble_eq_true rfl) dX8_hourOn_69 ⟨Nat.le_of_ble_eq_true rfl, Nat.le_of_ble_eq_true rfl⟩) cx hw [] rfl rfl rfl (ws' := HG g b q ((spkF z (irem (r 1) 12) (hrA r) j) 0) (flgF (spkF z (irem (r 1) 12) (hrA r) j) 4) (flgF (spkF z (irem (r 1) 12) (hrA r) j) 5) ((spkF z (irem (r 1) 12) (hrA r) j) 2) ((spkF z (irem (r 1) 12) (hrA r) j) 3) ((spkF z (irem (r 1) 12) (hrA r) j) 1) ((spkF z (irem (r 1) 12) (hrA r) j) 4) z (kdc q (spkF z (irem (r 1) 12) (hrA r) j)) (colv (spkF z (irem (r 1) 12) (hrA r) j) 1) (colv (spkF z (irem (r 1) 12) (hrA r) j) 2) (colv (spkF z (irem (r 1) 12) (hrA r) j) 3) (colv (spkF z (irem (r 1) 12) (hrA r) j) 6)) (rfl) (fun H locs hw => ?_)
            refine W.eq (g2 := F0 m9 72 ls [.int (bI (hsB z (nI j))), .int (flgF (spkF z (irem (r 1) 12) (hrA r) j) 4), .ref (b 0)]) rfl ?_
            refine lv_if_eq (tgt := 81) hx hb dX8_hourOn_72 (by decide) (fun c_72 => ?_) (fun c_72 => ?_)
            · skip
              have c_72 := bI_e0 c_72
              refine lv_iconst (v := 0) hx hb dX8_hourOn_81 (by decide) ?_
              refine lv_ior hx hb dX8_hourOn_82 ?_
              refine r_put cx hw in_X8 tyX8 tyX8_ok nmX8 0 (ci := 1) (T := TX8) (N := 13) rfl rfl 6 (by decide) q192 (fun _ h9 => h9) rfl (rfl) (rfl) (Nat.le_of_ble_eq_true rfl) dX8_hourOn_83 (fun H locs hw => ?_)
              have hw : WS g A9 s9.heap (HG g b q ((spkF z (irem (r 1) 12) (hrA r) j) 0) ((flgF (spkF z (irem (r 1) 12) (hrA r) j) 4) ||| 0) (flgF (spkF z (irem (r 1) 12) (hrA r) j) 5) ((spkF z (irem (r 1) 12) (hrA r) j) 2) ((spkF z (irem (r 1) 12) (hrA r) j) 3) ((spkF z (irem (r 1) 12) (hrA r) j) 1) ((spkF z (irem (r 1) 12) (hrA r) j) 4) z (kdc q (spkF z (irem (r 1) 12) (hrA r) j)) (colv (spkF z (irem (r 1) 12) (hrA r) j) 1) (colv (spkF z (irem (r 1) 12) (hrA r) j) 2) (colv (spkF z (irem (r 1) 12) (hrA r) j) 3) (colv (spkF z (irem (r 1) 12) (hrA r) j) 6)) H locs := hw
              refine lv_iinc (v := nI (j + 1)) (lv' := [(2, .int (nI (j + 1))), (0, .ref (b 0)), (1, .int (irem (r 1) 12))]) hx hb dX8_hourOn_86 hl (k := 2) rfl (nI_1 j) (by decide) rfl (fun ls hl => ?_)
              refine lv_goto (tgt := 42) hx hb dX8_hourOn_89 (by decide) ?_
              exact ih_J (j + 1)  (by omega) (by omega)  _ _ _ (WS.to hw (by rw [spkF_s, if_neg (fun h9 => h9.elim c_61 (fun h8 => by rw [c_72] at h8; cases h8)), or_0])) (lv_sub hl [1, 2, 0] rfl)
            · skip
              have c_72 := bI_n0 c_72
              refine lv_iconst (v := 1) hx hb dX8_hourOn_75 (by decide) ?_
              refine lv_iload_n hx hb dX8_hourOn_76 rfl (lv_at hl 2 rfl) ?_
              refine lv_ishl hx hb dX8_hourOn_77 ?_
              refine lv_goto (tgt := 82) hx hb dX8_hourOn_78 (by decide) ?_
              refine lv_ior hx hb dX8_hourOn_82 ?_
              refine r_put cx hw in_X8 tyX8 tyX8_ok nmX8 0 (ci := 1) (T := TX8) (N := 13) rfl rfl 6 (by decide) q192 (fun _ h9 => h9) rfl (rfl) (rfl) (Nat.le_of_ble_eq_true rfl) dX8_hourOn_83 (fun H locs hw => ?_)
              have hw : WS g A9 s9.heap (HG g b q ((spkF z (irem (r 1) 12) (hrA r) j) 0) ((flgF (spkF z (irem (r 1) 12) (hrA r) j) 4) ||| ((1 : Int32) <<< ((nI j) &&& 31))) (flgF (spkF z (irem (r 1) 12) (hrA r) j) 5) ((spkF z (irem (r 1) 12) (hrA r) j) 2) ((spkF z (irem (r 1) 12) (hrA r) j) 3) ((spkF z (irem (r 1) 12) (hrA r) j) 1) ((spkF z (irem (r 1) 12) (hrA r) j) 4) z (kdc q (spkF z (irem (r 1) 12) (hrA r) j)) (colv (spkF z (irem (r 1) 12) (hrA r) j) 1) (colv (spkF z (irem (r 1) 12) (hrA r) j) 2) (colv (spkF z (irem (r 1) 12) (hrA r) j) 3) (colv (spkF z (irem (r 1) 12) (hrA r) j) 6)) H locs := hw
              refine lv_iinc (v := nI (j + 1)) (lv' := [(2, .int (nI (j + 1))), (0, .ref (b 0)), (1, .int (irem (r 1) 12))]) hx hb dX8_hourOn_86 hl (k := 2) rfl (nI_1 j) (by decide) rfl (fun ls hl => ?_)
              refine lv_goto (tgt := 42) hx hb dX8_hourOn_89 (by decide) ?_
              exact ih_J (j + 1)  (by omega) (by omega)  _ _ _ (WS.to hw (by rw [spkF_s, if_pos (Or.inr c_72)]; exact HX_4 hR hj9)) (lv_sub hl [1, 2, 0] rfl)
    exact J (nN r + 1) 0 (by omega) (by omega) H locs ls hw hl
  refine lv_aload_n hx hb dX8_hourOn_0 rfl (lv_at hl 0 rfl) ?_
  refine r_get cx hw in_X8 0 (ci := 1) (T := TX8) (N := 13) rfl rfl 10 (by decide) q203 (fun _ h9 => h9) rfl dX8_hourOn_1 ?_
  refine lv_bipush (v := 12) hx hb dX8_hourOn_4 (by decide) ?_
  refine lv_irem hx hb dX8_hourOn_6 (by decide) ?_
  refine r_topi (x' := irem (r 1) 12) (rfl) ?_
  refine lv_istore_n (lv' := [(1, .int (irem (r 1) 12)), (0, .ref (b 0))]) hx hb dX8_hourOn_7 rfl hl (by decide) rfl (fun ls hl => ?_)
  refine lv_iload_n hx hb dX8_hourOn_8 rfl (lv_at hl 0 rfl) ?_
  refine lv_if_ne (tgt := 40) hx hb dX8_hourOn_9 (by decide) (fun c_9 => ?_) (fun c_9 => ?_)
  · skip
    refine lv_iconst (v := 0) hx hb dX8_hourOn_40 (by decide) ?_
    refine lv_istore_n (lv' := [(2, .int 0), (1, .int (irem (r 1) 12)), (0, .ref (b 0))]) hx hb dX8_hourOn_41 rfl hl (by decide) rfl (fun ls hl => ?_)
    exact J42 _ _ _ (WS.to hw (by rw [hrA, if_neg c_9])) (lv_sub hl [2, 1, 0] rfl)
  · skip
    refine lv_aload_n hx hb dX8_hourOn_12 rfl (lv_at hl 1 rfl) ?_
    refine lv_iconst (v := 0) hx hb dX8_hourOn_13 (by decide) ?_
    refine r_put cx hw in_X8 tyX8 tyX8_ok nmX8 0 (ci := 1) (T := TX8) (N := 13) rfl rfl 6 (by decide) q192 (fun _ h9 => h9) rfl (rfl) (rfl) (Nat.le_of_ble_eq_true rfl) dX8_hourOn_14 (fun H locs hw => ?_)
    have hw : WS g A9 s9.heap (HG g b q (r 0) 0 (flgF r 5) (r 2) (r 3) (r 1) (r 4) z (kdc q r) (colv r 1) (colv r 2) (colv r 3) (colv r 6)) H locs := hw
    refine lv_aload_n hx hb dX8_hourOn_17 rfl (lv_at hl 1 rfl) ?_
    refine lv_iconst (v := 0) hx hb dX8_hourOn_18 (by decide) ?_
    refine r_put cx hw in_X8 tyX8 tyX8_ok nmX8 0 (ci := 1) (T := TX8) (N := 13) rfl rfl 7 (by decide) q194 (fun _ h9 => h9) rfl (rfl) (rfl) (Nat.le_of_ble_eq_true rfl) dX8_hourOn_19 (fun H locs hw => ?_)
    have hw : WS g A9 s9.heap (HG g b q (r 0) 0 0 (r 2) (r 3) (r 1) (r 4) z (kdc q r) (colv r 1) (colv r 2) (colv r 3) (colv r 6)) H locs := hw
    refine lv_aload_n hx hb dX8_hourOn_22 rfl (lv_at hl 1 rfl) ?_
    refine lv_bipush (v := 99) hx hb dX8_hourOn_23 (by decide) ?_
    refine lv_aload_n hx hb dX8_hourOn_25 rfl (lv_at hl 1 rfl) ?_
    refine r_get cx hw in_X8 0 (ci := 1) (T := TX8) (N := 13) rfl rfl 8 (by decide) q196 (fun _ h9 => h9) rfl dX8_hourOn_26 ?_
    refine lv_aload_n hx hb dX8_hourOn_29 rfl (lv_at hl 1 rfl) ?_
    refine r_get cx hw in_X8 0 (ci := 1) (T := TX8) (N := 13) rfl rfl 9 (by decide) q199 (fun _ h9 => h9) rfl dX8_hourOn_30 ?_
    refine lv_iadd hx hb dX8_hourOn_33 ?_
    refine va_mmin hx hb (cx.2.2.1.trans hl.1.symm) cx.2.2.2.1 (hts _ q623) (hts _ q624) (hts _ q112) (hts _ q625) (Nat.le_of_ble_eq_true rfl) (Nat.le_of_ble_eq_true rfl) (Nat.le_of_ble_eq_true rfl) (Nat.le_of_ble_eq_true rfl) dX8_hourOn_34 ?_
    refine r_topi (x' := minI 99 ((r 2) + (r 3))) (rfl) ?_
    refine r_put cx hw in_X8 tyX8 tyX8_ok nmX8 0 (ci := 1) (T := TX8) (N := 13) rfl rfl 8 (by decide) q196 (fun _ h9 => h9) rfl (rfl) (rfl) (Nat.le_of_ble_eq_true rfl) dX8_hourOn_37 (fun H locs hw => ?_)
    have hw : WS g A9 s9.heap (HG g b q (r 0) 0 0 (minI 99 ((r 2) + (r 3))) (r 3) (r 1) (r 4) z (kdc q r) (colv r 1) (colv r 2) (colv r 3) (colv r 6)) H locs := hw
    refine lv_iconst (v := 0) hx hb dX8_hourOn_40 (by decide) ?_
    refine lv_istore_n (lv' := [(2, .int 0), (1, .int (irem (r 1) 12)), (0, .ref (b 0))]) hx hb dX8_hourOn_41 rfl hl (by decide) rfl (fun ls hl => ?_)
    exact J42 _ _ _ (WS.to hw (hrA_eq hI c_9)) (lv_sub hl [2, 1, 0] rfl)

set_option maxHeartbeats 4000000 in
set_option maxRecDepth 100000 in
theorem kX8_hoursOn (l : Launch) (hl9 : l.stackTraces = false) (g : GG) (b q : Nat → Nat) (r : Nat → Int32) (hI : InvX r) (n : Nat) (hn : n < 1000) : MC l yX8_hoursOn cX8_hoursOn 3 (some (.object "WellOfTheSilent$Hill")) 5 106 0 0 g [.ref (b 0), .int (nI n)] (HX g b q r 0) (rt (some (.ref (b 0))) (HX g b q (hoursF r n) 0)) (noX) := by
  refine MC.of (by decide) (Nat.le_of_ble_eq_true rfl) ?_
  intro p9 e9 s9 m9 args9 below9 meth9 c9 A9 ls cx htab hw hl
  have hx := cx.1
  have hb := cx.2.1
  have hts := cx.2.2.2.2.1
  have hK := cx.2.2.2.2.2.2.2.1
  have hl : lv_has ls 3 [(0, .ref (b 0)), (1, .int (nI n))] := hl
  have hw : WS g A9 s9.heap (HG g b q (r 0) (flgF r 4) (flgF r 5) (r 2) (r 3) (r 1) (r 4) 0 (kdc q r) (colv r 1) (colv r 2) (colv r 3) (colv r 6)) s9.heap [] := hw
  have J : ∀ (n9 j : Nat) , j ≤ n → n < n9 + j → ∀ (H : Heap) (locs : List Loc) (ls : Array Slot), WS g A9 s9.heap (HG g b q ((hoursF r j) 0) (flgF (hoursF r j) 4) (flgF (hoursF r j) 5) ((hoursF r j) 2) ((hoursF r j) 3) ((hoursF r j) 1) ((hoursF r j) 4) 0 (kdc q (hoursF r j)) (colv (hoursF r j) 1) (colv (hoursF r j) 2) (colv (hoursF r j) 3) (colv (hoursF r j) 6)) H locs → lv_has ls 3 [(0, .ref (b 0)), (1, .int (nI n)), (2, .int (nI j))] → W p9 l e9 (rmC 5 106 0 0) s9 m9 args9 below9 meth9 c9 H locs 0 0 (vx_MQ below9 (PostA g A9 (rt (some (.ref (b 0))) (HX g b q (hoursF r n) 0))) (PxA g A9 (pxR (noX))) args9 s9 0 0 A9) (F0 m9 2 ls []) := by
    intro n9
    induction n9 with
    | zero => intro j  hj hk9; exact absurd hk9 (by omega)
    | succ n9 ih_J =>
      intro j  hj hk9  H locs ls hw hl
      refine lv_iload_n hx hb dX8_hoursOn_2 rfl (lv_at hl 2 rfl) ?_
      refine lv_iload_n hx hb dX8_hoursOn_3 rfl (lv_at hl 1 rfl) ?_
      refine lv_icmp_ge (tgt := 17) hx hb dX8_hoursOn_4 (by decide) (fun c_4 => ?_) (fun c_4 => ?_)
      · skip
        have c_4 : n ≤ j := (nI_leI (a := n) (b := j) (by omega) (by omega)).mp c_4
        have e8 : j = n := by omega
        refine lv_aload_n hx hb dX8_hoursOn_17 rfl (lv_at hl 0 rfl) ?_
        exact r_aret cx hw (⟨rfl, by rw [e8]; rfl⟩) (Nat.le_of_ble_eq_true rfl) (Nat.le_of_ble_eq_true rfl) dX8_hoursOn_18
      · skip
        have c_4 : j < n := Nat.not_le.mp (fun h9 => c_4 ((nI_leI (a := n) (b := j) (by omega) (by omega)).mpr h9))
        refine lv_aload_n hx hb dX8_hoursOn_7 rfl (lv_at hl 0 rfl) ?_
        refine r_det (r_V cx hw (kX8_hourOn l hl9 g b q (hoursF r j) 0 (hoursF_I hI j) ) (cwV 0 hts (lw_V q619 q620 q621 q93 q622) rfl rfl rfl (by decide +kernel) ⟨Nat.le_of_ble_eq_true rfl, Nat.le_of_ble_eq_true rfl⟩) (r_recv hK hw (k := 0) (ci := 1) rfl rfl) [0, 1, 2, 3, 4, 5, 6, 7, 8, 9, 10, 11] rfl rfl rfl hl.1 rfl (Nat.le_of_ble_eq_true rfl) dX8_hoursOn_8 ⟨Nat.le_of_ble_eq_true rfl, Nat.le_of_ble_eq_true rfl⟩) cx hw [0, 1, 2, 3, 4, 5, 6, 7, 8, 9, 10, 11] rfl rfl HX_adr (ws' := HG g b q ((hourF (hoursF r j) 0) 0) (flgF (hourF (hoursF r j) 0) 4) (flgF (hourF (hoursF r j) 0) 5) ((hourF (hoursF r j) 0) 2) ((hourF (hoursF r j) 0) 3) ((hourF (hoursF r j) 0) 1) ((hourF (hoursF r j) 0) 4) 0 (kdc q (hourF (hoursF r j) 0)) (colv (hourF (hoursF r j) 0) 1) (colv (hourF (hoursF r j) 0) 2) (colv (hourF (hoursF r j) 0) 3) (colv (hourF (hoursF r j) 0) 6)) (rfl) (fun H locs hw => ?_)
        refine W.eq (g2 := F0 m9 11 ls []) rfl ?_
        refine lv_iinc (v := nI (j + 1)) (lv' := [(2, .int (nI (j + 1))), (0, .ref (b 0)), (1, .int (nI n))]) hx hb dX8_hoursOn_11 hl (k := 2) rfl (nI_1 j) (by decide) rfl (fun ls hl => ?_)
        refine lv_goto (tgt := 2) hx hb dX8_hoursOn_14 (by decide) ?_
        exact ih_J (j + 1)  (by omega) (by omega)  _ _ _ (hw) (lv_sub hl [1, 2, 0] rfl)
  refine lv_iconst (v := 0) hx hb dX8_hoursOn_0 (by decide) ?_
  refine lv_istore_n (lv' := [(2, .int 0), (0, .ref (b 0)), (1, .int (nI n))]) hx hb dX8_hoursOn_1 rfl hl (by decide) rfl (fun ls hl => ?_)
  exact J (n + 1) 0  (by omega) (by omega)  _ _ _ (hw) (lv_sub hl [1, 2, 0] rfl)

set_option maxHeartbeats 4000000 in
set_option maxRecDepth 100000 in
theorem kX8_all (l : Launch) (hl9 : l.stackTraces = false) (g : GG) (b q : Nat → Nat) (r : Nat → Int32) (z : Int32) (hI : InvX r)  : MC l yX8_all cX8_all 3 (some .int) 0 0 0 0 g [.ref (b 0)] (HX g b q r z) (rt (some (.int (allF r))) (HX g b q r z)) (noX) := by
  refine MC.of (by decide) (Nat.le_of_ble_eq_true rfl) ?_
  intro p9 e9 s9 m9 args9 below9 meth9 c9 A9 ls cx htab hw hl
  have hx := cx.1
  have hb := cx.2.1
  have hts := cx.2.2.2.2.1
  have hK := cx.2.2.2.2.2.2.2.1
  have hl : lv_has ls 3 [(0, .ref (b 0))] := hl
  have hw : WS g A9 s9.heap (HG g b q (r 0) (flgF r 4) (flgF r 5) (r 2) (r 3) (r 1) (r 4) z (kdc q r) (colv r 1) (colv r 2) (colv r 3) (colv r 6)) s9.heap [] := hw
  have hN := hI.1.1
  have J : ∀ (n9 j : Nat) , j ≤ nN r → nN r < n9 + j → ∀ (H : Heap) (locs : List Loc) (ls : Array Slot), WS g A9 s9.heap (HG g b q (r 0) (flgF r 4) (flgF r 5) (r 2) (r 3) (r 1) (r 4) z (kdc q r) (colv r 1) (colv r 2) (colv r 3) (colv r 6)) H locs → lv_has ls 3 [(0, .ref (b 0)), (1, .int (itr (fun p v => v + r (5 + 7 * p + 3)) j 0)), (2, .int (nI j))] → W p9 l e9 (rmC 0 0 0 0) s9 m9 args9 below9 meth9 c9 H locs 0 0 (vx_MQ below9 (PostA g A9 (rt (some (.int (allF r))) (HX g b q r z))) (PxA g A9 (pxR (noX))) args9 s9 0 0 A9) (F0 m9 4 ls []) := by
    intro n9
    induction n9 with
    | zero => intro j  hj hk9; exact absurd hk9 (by omega)
    | succ n9 ih_J =>
      intro j  hj hk9  H locs ls hw hl
      refine lv_iload_n hx hb dX8_all_4 rfl (lv_at hl 2 rfl) ?_
      refine lv_aload_n hx hb dX8_all_5 rfl (lv_at hl 0 rfl) ?_
      refine r_get cx hw in_X8 0 (ci := 1) (T := TX8) (N := 13) rfl rfl 0 (by decide) q176 (fun _ h9 => h9) rfl dX8_all_6 ?_
      refine r_topi (x' := nI (nN r)) (hI.1.2.1) ?_
      refine lv_icmp_ge (tgt := 27) hx hb dX8_all_9 (by decide) (fun c_9 => ?_) (fun c_9 => ?_)
      · skip
        have c_9 : (nN r) ≤ j := (nI_leI (a := (nN r)) (b := j) (by omega) (by omega)).mp c_9
        have e8 : j = nN r := by omega
        refine lv_iload_n hx hb dX8_all_27 rfl (lv_at hl 1 rfl) ?_
        exact r_iret cx hw (⟨by rw [e8]; rfl, rfl⟩) (Nat.le_of_ble_eq_true rfl) (Nat.le_of_ble_eq_true rfl) dX8_all_28
      · skip
        have c_9 : j < (nN r) := Nat.not_le.mp (fun h9 => c_9 ((nI_leI (a := (nN r)) (b := j) (by omega) (by omega)).mpr h9))
        refine lv_iload_n hx hb dX8_all_12 rfl (lv_at hl 1 rfl) ?_
        refine lv_aload_n hx hb dX8_all_13 rfl (lv_at hl 0 rfl) ?_
        refine r_get cx hw in_X8 0 (ci := 1) (T := TX8) (N := 13) rfl rfl 4 (by decide) q185 (fun _ h9 => h9) rfl dX8_all_14 ?_
        refine lv_iload_n hx hb dX8_all_17 rfl (lv_at hl 2 rfl) ?_
        refine r_iald cx hw 4 rfl j rfl (by omega) (Nat.le_of_ble_eq_true rfl) dX8_all_18 ?_
        refine r_topi (x' := r (5 + 7 * j + 3)) (rfl) ?_
        refine lv_iadd hx hb dX8_all_19 ?_
        refine lv_istore_n (lv' := [(1, .int ((itr (fun p v => v + r (5 + 7 * p + 3)) j 0) + (r (5 + 7 * j + 3)))), (0, .ref (b 0)), (2, .int (nI j))]) hx hb dX8_all_20 rfl hl (by decide) rfl (fun ls hl => ?_)
        refine lv_iinc (v := nI (j + 1)) (lv' := [(2, .int (nI (j + 1))), (1, .int ((itr (fun p v => v + r (5 + 7 * p + 3)) j 0) + (r (5 + 7 * j + 3)))), (0, .ref (b 0))]) hx hb dX8_all_21 hl (k := 2) rfl (nI_1 j) (by decide) rfl (fun ls hl => ?_)
        refine lv_goto (tgt := 4) hx hb dX8_all_24 (by decide) ?_
        exact ih_J (j + 1)  (by omega) (by omega)  _ _ _ (hw) (lv_sub hl [2, 1, 0] rfl)
  refine lv_iconst (v := 0) hx hb dX8_all_0 (by decide) ?_
  refine lv_istore_n (lv' := [(1, .int 0), (0, .ref (b 0))]) hx hb dX8_all_1 rfl hl (by decide) rfl (fun ls hl => ?_)
  refine lv_iconst (v := 0) hx hb dX8_all_2 (by decide) ?_
  refine lv_istore_n (lv' := [(2, .int 0), (1, .int 0), (0, .ref (b 0))]) hx hb dX8_all_3 rfl hl (by decide) rfl (fun ls hl => ?_)
  exact J (nN r + 1) 0  (by omega) (by omega)  _ _ _ (hw) (lv_sub hl [2, 1, 0] rfl)

set_option maxHeartbeats 4000000 in
set_option maxRecDepth 100000 in
theorem kX8_dryMany (l : Launch) (hl9 : l.stackTraces = false) (g : GG) (b q : Nat → Nat) (r : Nat → Int32) (z : Int32) (hI : InvX r)  : MC l yX8_dryMany cX8_dryMany 3 (some .int) 0 0 0 0 g [.ref (b 0)] (HX g b q r z) (rt (some (.int (dmF r))) (HX g b q r z)) (noX) := by
  refine MC.of (by decide) (Nat.le_of_ble_eq_true rfl) ?_
  intro p9 e9 s9 m9 args9 below9 meth9 c9 A9 ls cx htab hw hl
  have hx := cx.1
  have hb := cx.2.1
  have hts := cx.2.2.2.2.1
  have hK := cx.2.2.2.2.2.2.2.1
  have hl : lv_has ls 3 [(0, .ref (b 0))] := hl
  have hw : WS g A9 s9.heap (HG g b q (r 0) (flgF r 4) (flgF r 5) (r 2) (r 3) (r 1) (r 4) z (kdc q r) (colv r 1) (colv r 2) (colv r 3) (colv r 6)) s9.heap [] := hw
  have hN := hI.1.1
  have J : ∀ (n9 j : Nat) , j ≤ nN r → nN r < n9 + j → ∀ (H : Heap) (locs : List Loc) (ls : Array Slot), WS g A9 s9.heap (HG g b q (r 0) (flgF r 4) (flgF r 5) (r 2) (r 3) (r 1) (r 4) z (kdc q r) (colv r 1) (colv r 2) (colv r 3) (colv r 6)) H locs → lv_has ls 3 [(0, .ref (b 0)), (1, .int (ctI (dyB r) j)), (2, .int (nI j))] → W p9 l e9 (rmC 0 0 0 0) s9 m9 args9 below9 meth9 c9 H locs 0 0 (vx_MQ below9 (PostA g A9 (rt (some (.int (dmF r))) (HX g b q r z))) (PxA g A9 (pxR (noX))) args9 s9 0 0 A9) (F0 m9 4 ls []) := by
    intro n9
    induction n9 with
    | zero => intro j  hj hk9; exact absurd hk9 (by omega)
    | succ n9 ih_J =>
      intro j  hj hk9  H locs ls hw hl
      refine lv_iload_n hx hb dX8_dryMany_4 rfl (lv_at hl 2 rfl) ?_
      refine lv_aload_n hx hb dX8_dryMany_5 rfl (lv_at hl 0 rfl) ?_
      refine r_get cx hw in_X8 0 (ci := 1) (T := TX8) (N := 13) rfl rfl 0 (by decide) q176 (fun _ h9 => h9) rfl dX8_dryMany_6 ?_
      refine r_topi (x' := nI (nN r)) (hI.1.2.1) ?_
      refine lv_icmp_ge (tgt := 35) hx hb dX8_dryMany_9 (by decide) (fun c_9 => ?_) (fun c_9 => ?_)
      · skip
        have c_9 : (nN r) ≤ j := (nI_leI (a := (nN r)) (b := j) (by omega) (by omega)).mp c_9
        have e8 : j = nN r := by omega
        refine lv_iload_n hx hb dX8_dryMany_35 rfl (lv_at hl 1 rfl) ?_
        exact r_iret cx hw (⟨by rw [e8]; rfl, rfl⟩) (Nat.le_of_ble_eq_true rfl) (Nat.le_of_ble_eq_true rfl) dX8_dryMany_36
      · skip
        have c_9 : j < (nN r) := Nat.not_le.mp (fun h9 => c_9 ((nI_leI (a := (nN r)) (b := j) (by omega) (by omega)).mpr h9))
        refine lv_iload_n hx hb dX8_dryMany_12 rfl (lv_at hl 1 rfl) ?_
        refine lv_aload_n hx hb dX8_dryMany_13 rfl (lv_at hl 0 rfl) ?_
        refine r_get cx hw in_X8 0 (ci := 1) (T := TX8) (N := 13) rfl rfl 4 (by decide) q185 (fun _ h9 => h9) rfl dX8_dryMany_14 ?_
        refine lv_iload_n hx hb dX8_dryMany_17 rfl (lv_at hl 2 rfl) ?_
        refine r_iald cx hw 4 rfl j rfl (by omega) (Nat.le_of_ble_eq_true rfl) dX8_dryMany_18 ?_
        refine r_topi (x' := r (5 + 7 * j + 3)) (rfl) ?_
        refine lv_if_ne (tgt := 26) hx hb dX8_dryMany_19 (by decide) (fun c_19 => ?_) (fun c_19 => ?_)
        · skip
          refine lv_iconst (v := 0) hx hb dX8_dryMany_26 (by decide) ?_
          refine r_topi (x' := if dyB r j = true then 1 else 0) (by rw [if_neg (show ¬ dyB r j = true from fun h9 => c_19 (of_decide_eq_true h9))]) ?_
          refine lv_iadd hx hb dX8_dryMany_27 ?_
          refine lv_istore_n (lv' := [(1, .int ((ctI (dyB r) j) + (if dyB r j = true then 1 else 0))), (0, .ref (b 0)), (2, .int (nI j))]) hx hb dX8_dryMany_28 rfl hl (by decide) rfl (fun ls hl => ?_)
          refine lv_iinc (v := nI (j + 1)) (lv' := [(2, .int (nI (j + 1))), (1, .int ((ctI (dyB r) j) + (if dyB r j = true then 1 else 0))), (0, .ref (b 0))]) hx hb dX8_dryMany_29 hl (k := 2) rfl (nI_1 j) (by decide) rfl (fun ls hl => ?_)
          refine lv_goto (tgt := 4) hx hb dX8_dryMany_32 (by decide) ?_
          exact ih_J (j + 1)  (by omega) (by omega)  _ _ _ (hw) (lv_sub hl [2, 1, 0] rfl)
        · skip
          refine lv_iconst (v := 1) hx hb dX8_dryMany_22 (by decide) ?_
          refine lv_goto (tgt := 27) hx hb dX8_dryMany_23 (by decide) ?_
          refine r_topi (x' := if dyB r j = true then 1 else 0) (by rw [if_pos (show dyB r j = true from decide_eq_true c_19)]) ?_
          refine lv_iadd hx hb dX8_dryMany_27 ?_
          refine lv_istore_n (lv' := [(1, .int ((ctI (dyB r) j) + (if dyB r j = true then 1 else 0))), (0, .ref (b 0)), (2, .int (nI j))]) hx hb dX8_dryMany_28 rfl hl (by decide) rfl (fun ls hl => ?_)
          refine lv_iinc (v := nI (j + 1)) (lv' := [(2, .int (nI (j + 1))), (1, .int ((ctI (dyB r) j) + (if dyB r j = true then 1 else 0))), (0, .ref (b 0))]) hx hb dX8_dryMany_29 hl (k := 2) rfl (nI_1 j) (by decide) rfl (fun ls hl => ?_)
          refine lv_goto (tgt := 4) hx hb dX8_dryMany_32 (by decide) ?_
          exact ih_J (j + 1)  (by omega) (by omega)  _ _ _ (hw) (lv_sub hl [2, 1, 0] rfl)
  refine lv_iconst (v := 0) hx hb dX8_dryMany_0 (by decide) ?_
  refine lv_istore_n (lv' := [(1, .int 0), (0, .ref (b 0))]) hx hb dX8_dryMany_1 rfl hl (by decide) rfl (fun ls hl => ?_)
  refine lv_iconst (v := 0) hx hb dX8_dryMany_2 (by decide) ?_
  refine lv_istore_n (lv' := [(2, .int 0), (1, .int 0), (0, .ref (b 0))]) hx hb dX8_dryMany_3 rfl hl (by decide) rfl (fun ls hl => ?_)
  exact J (nN r + 1) 0  (by omega) (by omega)  _ _ _ (hw) (lv_sub hl [2, 1, 0] rfl)

set_option maxHeartbeats 4000000 in
set_option maxRecDepth 100000 in
theorem kX8_least (l : Launch) (hl9 : l.stackTraces = false) (g : GG) (b q : Nat → Nat) (r : Nat → Int32) (z : Int32) (hI : InvX r)  : MC l yX8_least cX8_least 3 (some .int) 1 13 0 0 g [.ref (b 0)] (HX g b q r z) (rt (some (.int (lsX r))) (HX g b q r z)) (noX) := by
  refine MC.of (by decide) (Nat.le_of_ble_eq_true rfl) ?_
  intro p9 e9 s9 m9 args9 below9 meth9 c9 A9 ls cx htab hw hl
  have hx := cx.1
  have hb := cx.2.1
  have hts := cx.2.2.2.2.1
  have hK := cx.2.2.2.2.2.2.2.1
  have hl : lv_has ls 3 [(0, .ref (b 0))] := hl
  have hw : WS g A9 s9.heap (HG g b q (r 0) (flgF r 4) (flgF r 5) (r 2) (r 3) (r 1) (r 4) z (kdc q r) (colv r 1) (colv r 2) (colv r 3) (colv r 6)) s9.heap [] := hw
  have hN := hI.1.1
  have J : ∀ (n9 j : Nat) , j ≤ nN r → nN r < n9 + j → ∀ (H : Heap) (locs : List Loc) (ls : Array Slot), WS g A9 s9.heap (HG g b q (r 0) (flgF r 4) (flgF r 5) (r 2) (r 3) (r 1) (r 4) z (kdc q r) (colv r 1) (colv r 2) (colv r 3) (colv r 6)) H locs → lv_has ls 3 [(0, .ref (b 0)), (1, .int (itr (fun p v => minI v (r (5 + 7 * p + 3))) j 99)), (2, .int (nI j))] → W p9 l e9 (rmC 1 13 0 0) s9 m9 args9 below9 meth9 c9 H locs 0 0 (vx_MQ below9 (PostA g A9 (rt (some (.int (lsX r))) (HX g b q r z))) (PxA g A9 (pxR (noX))) args9 s9 0 0 A9) (F0 m9 5 ls []) := by
    intro n9
    induction n9 with
    | zero => intro j  hj hk9; exact absurd hk9 (by omega)
    | succ n9 ih_J =>
      intro j  hj hk9  H locs ls hw hl
      refine lv_iload_n hx hb dX8_least_5 rfl (lv_at hl 2 rfl) ?_
      refine lv_aload_n hx hb dX8_least_6 rfl (lv_at hl 0 rfl) ?_
      refine r_get cx hw in_X8 0 (ci := 1) (T := TX8) (N := 13) rfl rfl 0 (by decide) q176 (fun _ h9 => h9) rfl dX8_least_7 ?_
      refine r_topi (x' := nI (nN r)) (hI.1.2.1) ?_
      refine lv_icmp_ge (tgt := 30) hx hb dX8_least_10 (by decide) (fun c_10 => ?_) (fun c_10 => ?_)
      · skip
        have c_10 : (nN r) ≤ j := (nI_leI (a := (nN r)) (b := j) (by omega) (by omega)).mp c_10
        have e8 : j = nN r := by omega
        refine lv_iload_n hx hb dX8_least_30 rfl (lv_at hl 1 rfl) ?_
        exact r_iret cx hw (⟨by rw [e8]; rfl, rfl⟩) (Nat.le_of_ble_eq_true rfl) (Nat.le_of_ble_eq_true rfl) dX8_least_31
      · skip
        have c_10 : j < (nN r) := Nat.not_le.mp (fun h9 => c_10 ((nI_leI (a := (nN r)) (b := j) (by omega) (by omega)).mpr h9))
        refine lv_iload_n hx hb dX8_least_13 rfl (lv_at hl 1 rfl) ?_
        refine lv_aload_n hx hb dX8_least_14 rfl (lv_at hl 0 rfl) ?_
        refine r_get cx hw in_X8 0 (ci := 1) (T := TX8) (N := 13) rfl rfl 4 (by decide) q185 (fun _ h9 => h9) rfl dX8_least_15 ?_
        refine lv_iload_n hx hb dX8_least_18 rfl (lv_at hl 2 rfl) ?_
        refine r_iald cx hw 4 rfl j rfl (by omega) (Nat.le_of_ble_eq_true rfl) dX8_least_19 ?_
        refine r_topi (x' := r (5 + 7 * j + 3)) (rfl) ?_
        refine va_mmin hx hb (cx.2.2.1.trans hl.1.symm) cx.2.2.2.1 (hts _ q623) (hts _ q624) (hts _ q112) (hts _ q625) (Nat.le_of_ble_eq_true rfl) (Nat.le_of_ble_eq_true rfl) (Nat.le_of_ble_eq_true rfl) (Nat.le_of_ble_eq_true rfl) dX8_least_20 ?_
        refine r_topi (x' := minI (itr (fun p v => minI v (r (5 + 7 * p + 3))) j 99) (r (5 + 7 * j + 3))) (rfl) ?_
        refine lv_istore_n (lv' := [(1, .int (minI (itr (fun p v => minI v (r (5 + 7 * p + 3))) j 99) (r (5 + 7 * j + 3)))), (0, .ref (b 0)), (2, .int (nI j))]) hx hb dX8_least_23 rfl hl (by decide) rfl (fun ls hl => ?_)
        refine lv_iinc (v := nI (j + 1)) (lv' := [(2, .int (nI (j + 1))), (1, .int (minI (itr (fun p v => minI v (r (5 + 7 * p + 3))) j 99) (r (5 + 7 * j + 3)))), (0, .ref (b 0))]) hx hb dX8_least_24 hl (k := 2) rfl (nI_1 j) (by decide) rfl (fun ls hl => ?_)
        refine lv_goto (tgt := 5) hx hb dX8_least_27 (by decide) ?_
        exact ih_J (j + 1)  (by omega) (by omega)  _ _ _ (hw) (lv_sub hl [2, 1, 0] rfl)
  refine lv_bipush (v := 99) hx hb dX8_least_0 (by decide) ?_
  refine lv_istore_n (lv' := [(1, .int 99), (0, .ref (b 0))]) hx hb dX8_least_2 rfl hl (by decide) rfl (fun ls hl => ?_)
  refine lv_iconst (v := 0) hx hb dX8_least_3 (by decide) ?_
  refine lv_istore_n (lv' := [(2, .int 0), (1, .int 99), (0, .ref (b 0))]) hx hb dX8_least_4 rfl hl (by decide) rfl (fun ls hl => ?_)
  exact J (nN r + 1) 0  (by omega) (by omega)  _ _ _ (hw) (lv_sub hl [2, 1, 0] rfl)

set_option maxHeartbeats 4000000 in
set_option maxRecDepth 100000 in
theorem kX8_staysWet (l : Launch) (hl9 : l.stackTraces = false) (g : GG) (b q : Nat → Nat) (r : Nat → Int32) (hI : InvX r) (n : Nat) (hn : n < 1000) : MC l yX8_staysWet cX8_staysWet 4 (some .boolean) 5 106 0 0 g [.ref (b 0), .int (nI n)] (HX g b q r 0) (rtE (α := Nat → Int32) (some (.int (bI (ndB r (-1) (n + 1))))) (fun x9 => HX g b q x9 0)) (noX) := by
  refine MC.of (by decide) (Nat.le_of_ble_eq_true rfl) ?_
  intro p9 e9 s9 m9 args9 below9 meth9 c9 A9 ls cx htab hw hl
  have hx := cx.1
  have hb := cx.2.1
  have hts := cx.2.2.2.2.1
  have hK := cx.2.2.2.2.2.2.2.1
  have hl : lv_has ls 4 [(0, .ref (b 0)), (1, .int (nI n))] := hl
  have hw : WS g A9 s9.heap (HG g b q (r 0) (flgF r 4) (flgF r 5) (r 2) (r 3) (r 1) (r 4) 0 (kdc q r) (colv r 1) (colv r 2) (colv r 3) (colv r 6)) s9.heap [] := hw
  have hN := hI.1.1
  have J : ∀ (n9 j : Nat) , j ≤ n → n < n9 + j → ∀ (H : Heap) (locs : List Loc) (ls : Array Slot), WS g A9 s9.heap (HG g b q ((hoursF r j) 0) (flgF (hoursF r j) 4) (flgF (hoursF r j) 5) ((hoursF r j) 2) ((hoursF r j) 3) ((hoursF r j) 1) ((hoursF r j) 4) 0 (kdc q (hoursF r j)) (colv (hoursF r j) 1) (colv (hoursF r j) 2) (colv (hoursF r j) 3) (colv (hoursF r j) 6)) H locs → lv_has ls 4 [(0, .ref (b 0)), (1, .int (nI n)), (2, .int (bI (ndB r (-1) (j + 1)))), (3, .int (nI j))] → W p9 l e9 (rmC 5 106 0 0) s9 m9 args9 below9 meth9 c9 H locs 0 0 (vx_MQ below9 (PostA g A9 (rtE (α := Nat → Int32) (some (.int (bI (ndB r (-1) (n + 1))))) (fun x9 => HX g b q x9 0))) (PxA g A9 (pxR (noX))) args9 s9 0 0 A9) (F0 m9 15 ls []) := by
    intro n9
    induction n9 with
    | zero => intro j  hj hk9; exact absurd hk9 (by omega)
    | succ n9 ih_J =>
      intro j  hj hk9  H locs ls hw hl
      refine lv_iload_n hx hb dX8_staysWet_15 rfl (lv_at hl 3 rfl) ?_
      refine lv_iload_n hx hb dX8_staysWet_16 rfl (lv_at hl 1 rfl) ?_
      refine lv_icmp_ge (tgt := 47) hx hb dX8_staysWet_17 (by decide) (fun c_17 => ?_) (fun c_17 => ?_)
      · skip
        have c_17 : n ≤ j := (nI_leI (a := n) (b := j) (by omega) (by omega)).mp c_17
        refine lv_iload_n hx hb dX8_staysWet_47 rfl (lv_at hl 2 rfl) ?_
        exact r_zret (bI_nar _) cx hw (⟨hoursF r j, by rw [show n = j by omega], rfl⟩) (Nat.le_of_ble_eq_true rfl) (Nat.le_of_ble_eq_true rfl) dX8_staysWet_48
      · skip
        have c_17 : j < n := Nat.not_le.mp (fun h9 => c_17 ((nI_leI (a := n) (b := j) (by omega) (by omega)).mpr h9))
        refine lv_iload_n hx hb dX8_staysWet_20 rfl (lv_at hl 2 rfl) ?_
        refine lv_if_eq (tgt := 47) hx hb dX8_staysWet_21 (by decide) (fun c_21 => ?_) (fun c_21 => ?_)
        · skip
          have c_21 := bI_e0 c_21
          refine lv_iload_n hx hb dX8_staysWet_47 rfl (lv_at hl 2 rfl) ?_
          exact r_zret (bI_nar _) cx hw (⟨hoursF r j, by rw [nd_f (M := n + 1) c_21 (by omega), c_21], rfl⟩) (Nat.le_of_ble_eq_true rfl) (Nat.le_of_ble_eq_true rfl) dX8_staysWet_48
        · skip
          have c_21 := bI_n0 c_21
          refine lv_aload_n hx hb dX8_staysWet_24 rfl (lv_at hl 0 rfl) ?_
          refine r_det (r_V cx hw (kX8_hourOn l hl9 g b q (hoursF r j) 0 (hoursF_I hI j) ) (cwV 0 hts (lw_V q619 q620 q621 q93 q622) rfl rfl rfl (by decide +kernel) ⟨Nat.le_of_ble_eq_true rfl, Nat.le_of_ble_eq_true rfl⟩) (r_recv hK hw (k := 0) (ci := 1) rfl rfl) [0, 1, 2, 3, 4, 5, 6, 7, 8, 9, 10, 11] rfl rfl rfl hl.1 rfl (Nat.le_of_ble_eq_true rfl) dX8_staysWet_25 ⟨Nat.le_of_ble_eq_true rfl, Nat.le_of_ble_eq_true rfl⟩) cx hw [0, 1, 2, 3, 4, 5, 6, 7, 8, 9, 10, 11] rfl rfl HX_adr (ws' := HG g b q ((hourF (hoursF r j) 0) 0) (flgF (hourF (hoursF r j) 0) 4) (flgF (hourF (hoursF r j) 0) 5) ((hourF (hoursF r j) 0) 2) ((hourF (hoursF r j) 0) 3) ((hourF (hoursF r j) 0) 1) ((hourF (hoursF r j) 0) 4) 0 (kdc q (hourF (hoursF r j) 0)) (colv (hourF (hoursF r j) 0) 1) (colv (hourF (hoursF r j) 0) 2) (colv (hourF (hoursF r j) 0) 3) (colv (hourF (hoursF r j) 0) 6)) (rfl) (fun H locs hw => ?_)
          refine W.eq (g2 := F0 m9 28 ls []) rfl ?_
          refine lv_aload_n hx hb dX8_staysWet_28 rfl (lv_at hl 0 rfl) ?_
          refine r_det (r_V cx hw (kX8_dryMany l hl9 g b q (hourF (hoursF r j) 0) 0 (hoursF_I hI (j + 1)) ) (cwV 0 hts (lw_V q842 q843 q844 q93 q845) rfl rfl rfl (by decide +kernel) ⟨Nat.le_of_ble_eq_true rfl, Nat.le_of_ble_eq_true rfl⟩) (r_recv hK hw (k := 0) (ci := 1) rfl rfl) [0, 1, 2, 3, 4, 5, 6, 7, 8, 9, 10, 11] rfl rfl rfl hl.1 rfl (Nat.le_of_ble_eq_true rfl) dX8_staysWet_29 ⟨Nat.le_of_ble_eq_true rfl, Nat.le_of_ble_eq_true rfl⟩) cx hw [0, 1, 2, 3, 4, 5, 6, 7, 8, 9, 10, 11] rfl rfl HX_adr (ws' := HG g b q ((hourF (hoursF r j) 0) 0) (flgF (hourF (hoursF r j) 0) 4) (flgF (hourF (hoursF r j) 0) 5) ((hourF (hoursF r j) 0) 2) ((hourF (hoursF r j) 0) 3) ((hourF (hoursF r j) 0) 1) ((hourF (hoursF r j) 0) 4) 0 (kdc q (hourF (hoursF r j) 0)) (colv (hourF (hoursF r j) 0) 1) (colv (hourF (hoursF r j) 0) 2) (colv (hourF (hoursF r j) 0) 3) (colv (hourF (hoursF r j) 0) 6)) (rfl) (fun H locs hw => ?_)
          refine W.eq (g2 := F0 m9 32 ls [.int (dmF (hourF (hoursF r j) 0))]) rfl ?_
          refine lv_if_ne (tgt := 39) hx hb dX8_staysWet_32 (by decide) (fun c_32 => ?_) (fun c_32 => ?_)
          · skip
            refine lv_iconst (v := 0) hx hb dX8_staysWet_39 (by decide) ?_
            have hd9 : ndB r (-1) (j + 1 + 1) = false := by show (ndB r (-1) (j + 1) && _) = _; rw [c_21, Bool.true_and]; exact (dm_0 (hoursF_I hI (j + 1)).1.1).symm.trans (decide_eq_false c_32)
            refine r_topi (x' := bI (ndB r (-1) (j + 1 + 1))) (by rw [hd9]; rfl) ?_
            refine lv_istore_n (lv' := [(2, .int (bI (ndB r (-1) (j + 1 + 1)))), (0, .ref (b 0)), (1, .int (nI n)), (3, .int (nI j))]) hx hb dX8_staysWet_40 rfl hl (by decide) rfl (fun ls hl => ?_)
            refine lv_iinc (v := nI (j + 1)) (lv' := [(3, .int (nI (j + 1))), (2, .int (bI (ndB r (-1) (j + 1 + 1)))), (0, .ref (b 0)), (1, .int (nI n))]) hx hb dX8_staysWet_41 hl (k := 3) rfl (nI_1 j) (by decide) rfl (fun ls hl => ?_)
            refine lv_goto (tgt := 15) hx hb dX8_staysWet_44 (by decide) ?_
            exact ih_J (j + 1)  (by omega) (by omega)  _ _ _ (hw) (lv_sub hl [2, 3, 1, 0] rfl)
          · skip
            refine lv_iconst (v := 1) hx hb dX8_staysWet_35 (by decide) ?_
            refine lv_goto (tgt := 40) hx hb dX8_staysWet_36 (by decide) ?_
            have hd9 : ndB r (-1) (j + 1 + 1) = true := by show (ndB r (-1) (j + 1) && _) = _; rw [c_21, Bool.true_and]; exact (dm_0 (hoursF_I hI (j + 1)).1.1).symm.trans (decide_eq_true c_32)
            refine r_topi (x' := bI (ndB r (-1) (j + 1 + 1))) (by rw [hd9]; rfl) ?_
            refine lv_istore_n (lv' := [(2, .int (bI (ndB r (-1) (j + 1 + 1)))), (0, .ref (b 0)), (1, .int (nI n)), (3, .int (nI j))]) hx hb dX8_staysWet_40 rfl hl (by decide) rfl (fun ls hl => ?_)
            refine lv_iinc (v := nI (j + 1)) (lv' := [(3, .int (nI (j + 1))), (2, .int (bI (ndB r (-1) (j + 1 + 1)))), (0, .ref (b 0)), (1, .int (nI n))]) hx hb dX8_staysWet_41 hl (k := 3) rfl (nI_1 j) (by decide) rfl (fun ls hl => ?_)
            refine lv_goto (tgt := 15) hx hb dX8_staysWet_44 (by decide) ?_
            exact ih_J (j + 1)  (by omega) (by omega)  _ _ _ (hw) (lv_sub hl [2, 3, 1, 0] rfl)
  refine lv_aload_n hx hb dX8_staysWet_0 rfl (lv_at hl 0 rfl) ?_
  refine r_det (r_V cx hw (kX8_dryMany l hl9 g b q r 0 hI ) (cwV 0 hts (lw_V q842 q843 q844 q93 q845) rfl rfl rfl (by decide +kernel) ⟨Nat.le_of_ble_eq_true rfl, Nat.le_of_ble_eq_true rfl⟩) (r_recv hK hw (k := 0) (ci := 1) rfl rfl) [0, 1, 2, 3, 4, 5, 6, 7, 8, 9, 10, 11] rfl rfl rfl hl.1 rfl (Nat.le_of_ble_eq_true rfl) dX8_staysWet_1 ⟨Nat.le_of_ble_eq_true rfl, Nat.le_of_ble_eq_true rfl⟩) cx hw [0, 1, 2, 3, 4, 5, 6, 7, 8, 9, 10, 11] rfl rfl HX_adr (ws' := HG g b q (r 0) (flgF r 4) (flgF r 5) (r 2) (r 3) (r 1) (r 4) 0 (kdc q r) (colv r 1) (colv r 2) (colv r 3) (colv r 6)) (rfl) (fun H locs hw => ?_)
  refine W.eq (g2 := F0 m9 4 ls [.int (dmF r)]) rfl ?_
  refine lv_if_ne (tgt := 11) hx hb dX8_staysWet_4 (by decide) (fun c_4 => ?_) (fun c_4 => ?_)
  · skip
    refine lv_iconst (v := 0) hx hb dX8_staysWet_11 (by decide) ?_
    refine r_topi (x' := bI (ndB r (-1) 1)) (by rw [show ndB r (-1) 1 = false from (dm_0 hI.1.1).symm.trans (decide_eq_false c_4)]; rfl) ?_
    refine lv_istore_n (lv' := [(2, .int (bI (ndB r (-1) (0 + 1)))), (0, .ref (b 0)), (1, .int (nI n))]) hx hb dX8_staysWet_12 rfl hl (by decide) rfl (fun ls hl => ?_)
    refine lv_iconst (v := 0) hx hb dX8_staysWet_13 (by decide) ?_
    refine lv_istore_n (lv' := [(3, .int 0), (2, .int (bI (ndB r (-1) (0 + 1)))), (0, .ref (b 0)), (1, .int (nI n))]) hx hb dX8_staysWet_14 rfl hl (by decide) rfl (fun ls hl => ?_)
    exact J (n + 1) 0  (by omega) (by omega)  _ _ _ (hw) (lv_sub hl [2, 3, 1, 0] rfl)
  · skip
    refine lv_iconst (v := 1) hx hb dX8_staysWet_7 (by decide) ?_
    refine lv_goto (tgt := 12) hx hb dX8_staysWet_8 (by decide) ?_
    refine r_topi (x' := bI (ndB r (-1) 1)) (by rw [show ndB r (-1) 1 = true from (dm_0 hI.1.1).symm.trans (decide_eq_true c_4)]; rfl) ?_
    refine lv_istore_n (lv' := [(2, .int (bI (ndB r (-1) (0 + 1)))), (0, .ref (b 0)), (1, .int (nI n))]) hx hb dX8_staysWet_12 rfl hl (by decide) rfl (fun ls hl => ?_)
    refine lv_iconst (v := 0) hx hb dX8_staysWet_13 (by decide) ?_
    refine lv_istore_n (lv' := [(3, .int 0), (2, .int (bI (ndB r (-1) (0 + 1)))), (0, .ref (b 0)), (1, .int (nI n))]) hx hb dX8_staysWet_14 rfl hl (by decide) rfl (fun ls hl => ?_)
    exact J (n + 1) 0  (by omega) (by omega)  _ _ _ (hw) (lv_sub hl [2, 3, 1, 0] rfl)

set_option maxHeartbeats 4000000 in
set_option maxRecDepth 100000 in
theorem kX8_staysWetFor (l : Launch) (hl9 : l.stackTraces = false) (g : GG) (b q : Nat → Nat) (r : Nat → Int32) (hI : InvX r) (p n : Nat) (hp : p < nN r) (hn : n < 1000) : MC l yX8_staysWetFor cX8_staysWetFor 5 (some .boolean) 5 106 0 0 g [.ref (b 0), .int (nI p), .int (nI n)] (HX g b q r 0) (rtE (α := Nat → Int32) (some (.int (bI (ndB r (1 <<< (nI p &&& 31)) (n + 1))))) (fun x9 => HX g b q x9 0)) (noX) := by
  refine MC.of (by decide) (Nat.le_of_ble_eq_true rfl) ?_
  intro p9 e9 s9 m9 args9 below9 meth9 c9 A9 ls cx htab hw hl
  have hx := cx.1
  have hb := cx.2.1
  have hts := cx.2.2.2.2.1
  have hK := cx.2.2.2.2.2.2.2.1
  have hl : lv_has ls 5 [(0, .ref (b 0)), (1, .int (nI p)), (2, .int (nI n))] := hl
  have hw : WS g A9 s9.heap (HG g b q (r 0) (flgF r 4) (flgF r 5) (r 2) (r 3) (r 1) (r 4) 0 (kdc q r) (colv r 1) (colv r 2) (colv r 3) (colv r 6)) s9.heap [] := hw
  have hN := hI.1.1
  have J : ∀ (n9 j : Nat) , j ≤ n → n < n9 + j → ∀ (H : Heap) (locs : List Loc) (ls : Array Slot), WS g A9 s9.heap (HG g b q ((hoursF r j) 0) (flgF (hoursF r j) 4) (flgF (hoursF r j) 5) ((hoursF r j) 2) ((hoursF r j) 3) ((hoursF r j) 1) ((hoursF r j) 4) 0 (kdc q (hoursF r j)) (colv (hoursF r j) 1) (colv (hoursF r j) 2) (colv (hoursF r j) 3) (colv (hoursF r j) 6)) H locs → lv_has ls 5 [(0, .ref (b 0)), (1, .int (nI p)), (2, .int (nI n)), (3, .int (bI (ndB r (1 <<< (nI p &&& 31)) (j + 1)))), (4, .int (nI j))] → W p9 l e9 (rmC 5 106 0 0) s9 m9 args9 below9 meth9 c9 H locs 0 0 (vx_MQ below9 (PostA g A9 (rtE (α := Nat → Int32) (some (.int (bI (ndB r (1 <<< (nI p &&& 31)) (n + 1))))) (fun x9 => HX g b q x9 0))) (PxA g A9 (pxR (noX))) args9 s9 0 0 A9) (F0 m9 18 ls []) := by
    intro n9
    induction n9 with
    | zero => intro j  hj hk9; exact absurd hk9 (by omega)
    | succ n9 ih_J =>
      intro j  hj hk9  H locs ls hw hl
      refine lv_iload hx hb dX8_staysWetFor_18 (lv_at hl 4 rfl) ?_
      refine lv_iload_n hx hb dX8_staysWetFor_20 rfl (lv_at hl 2 rfl) ?_
      refine lv_icmp_ge (tgt := 53) hx hb dX8_staysWetFor_21 (by decide) (fun c_21 => ?_) (fun c_21 => ?_)
      · skip
        have c_21 : n ≤ j := (nI_leI (a := n) (b := j) (by omega) (by omega)).mp c_21
        refine lv_iload_n hx hb dX8_staysWetFor_53 rfl (lv_at hl 3 rfl) ?_
        exact r_zret (bI_nar _) cx hw (⟨hoursF r j, by rw [show n = j by omega], rfl⟩) (Nat.le_of_ble_eq_true rfl) (Nat.le_of_ble_eq_true rfl) dX8_staysWetFor_54
      · skip
        have c_21 : j < n := Nat.not_le.mp (fun h9 => c_21 ((nI_leI (a := n) (b := j) (by omega) (by omega)).mpr h9))
        refine lv_iload_n hx hb dX8_staysWetFor_24 rfl (lv_at hl 3 rfl) ?_
        refine lv_if_eq (tgt := 53) hx hb dX8_staysWetFor_25 (by decide) (fun c_25 => ?_) (fun c_25 => ?_)
        · skip
          have c_25 := bI_e0 c_25
          refine lv_iload_n hx hb dX8_staysWetFor_53 rfl (lv_at hl 3 rfl) ?_
          exact r_zret (bI_nar _) cx hw (⟨hoursF r j, by rw [nd_f (M := n + 1) c_25 (by omega), c_25], rfl⟩) (Nat.le_of_ble_eq_true rfl) (Nat.le_of_ble_eq_true rfl) dX8_staysWetFor_54
        · skip
          have c_25 := bI_n0 c_25
          refine lv_aload_n hx hb dX8_staysWetFor_28 rfl (lv_at hl 0 rfl) ?_
          refine r_det (r_V cx hw (kX8_hourOn l hl9 g b q (hoursF r j) 0 (hoursF_I hI j) ) (cwV 0 hts (lw_V q619 q620 q621 q93 q622) rfl rfl rfl (by decide +kernel) ⟨Nat.le_of_ble_eq_true rfl, Nat.le_of_ble_eq_true rfl⟩) (r_recv hK hw (k := 0) (ci := 1) rfl rfl) [0, 1, 2, 3, 4, 5, 6, 7, 8, 9, 10, 11] rfl rfl rfl hl.1 rfl (Nat.le_of_ble_eq_true rfl) dX8_staysWetFor_29 ⟨Nat.le_of_ble_eq_true rfl, Nat.le_of_ble_eq_true rfl⟩) cx hw [0, 1, 2, 3, 4, 5, 6, 7, 8, 9, 10, 11] rfl rfl HX_adr (ws' := HG g b q ((hourF (hoursF r j) 0) 0) (flgF (hourF (hoursF r j) 0) 4) (flgF (hourF (hoursF r j) 0) 5) ((hourF (hoursF r j) 0) 2) ((hourF (hoursF r j) 0) 3) ((hourF (hoursF r j) 0) 1) ((hourF (hoursF r j) 0) 4) 0 (kdc q (hourF (hoursF r j) 0)) (colv (hourF (hoursF r j) 0) 1) (colv (hourF (hoursF r j) 0) 2) (colv (hourF (hoursF r j) 0) 3) (colv (hourF (hoursF r j) 0) 6)) (rfl) (fun H locs hw => ?_)
          refine W.eq (g2 := F0 m9 32 ls []) rfl ?_
          refine lv_aload_n hx hb dX8_staysWetFor_32 rfl (lv_at hl 0 rfl) ?_
          refine r_get cx hw in_X8 0 (ci := 1) (T := TX8) (N := 13) rfl rfl 4 (by decide) q185 (fun _ h9 => h9) rfl dX8_staysWetFor_33 ?_
          refine lv_iload_n hx hb dX8_staysWetFor_36 rfl (lv_at hl 1 rfl) ?_
          refine r_iald cx hw 4 rfl p rfl (by omega) (Nat.le_of_ble_eq_true rfl) dX8_staysWetFor_37 ?_
          refine r_topi (x' := (hourF (hoursF r j) 0) (5 + 7 * p + 3)) (rfl) ?_
          refine lv_if_le (tgt := 45) hx hb dX8_staysWetFor_38 (by decide) (fun c_38 => ?_) (fun c_38 => ?_)
          · skip
            have c_38N := Int32.not_lt.mpr c_38
            refine lv_iconst (v := 0) hx hb dX8_staysWetFor_45 (by decide) ?_
            have hd9 : ndB r (1 <<< (nI p &&& 31)) (j + 1 + 1) = false := by show (ndB r (1 <<< (nI p &&& 31)) (j + 1) && _) = _; rw [c_25, Bool.true_and]; exact (dm_p (hoursF_I hI (j + 1)) (by rw [nN_hoursF]; exact hp)).symm.trans (decide_eq_false c_38N)
            refine r_topi (x' := bI (ndB r (1 <<< (nI p &&& 31)) (j + 1 + 1))) (by rw [hd9]; rfl) ?_
            refine lv_istore_n (lv' := [(3, .int (bI (ndB r (1 <<< (nI p &&& 31)) (j + 1 + 1)))), (0, .ref (b 0)), (1, .int (nI p)), (2, .int (nI n)), (4, .int (nI j))]) hx hb dX8_staysWetFor_46 rfl hl (by decide) rfl (fun ls hl => ?_)
            refine lv_iinc (v := nI (j + 1)) (lv' := [(4, .int (nI (j + 1))), (3, .int (bI (ndB r (1 <<< (nI p &&& 31)) (j + 1 + 1)))), (0, .ref (b 0)), (1, .int (nI p)), (2, .int (nI n))]) hx hb dX8_staysWetFor_47 hl (k := 4) rfl (nI_1 j) (by decide) rfl (fun ls hl => ?_)
            refine lv_goto (tgt := 18) hx hb dX8_staysWetFor_50 (by decide) ?_
            exact ih_J (j + 1)  (by omega) (by omega)  _ _ _ (hw) (lv_sub hl [2, 3, 4, 1, 0] rfl)
          · skip
            have c_38N := Int32.not_le.mp c_38
            refine lv_iconst (v := 1) hx hb dX8_staysWetFor_41 (by decide) ?_
            refine lv_goto (tgt := 46) hx hb dX8_staysWetFor_42 (by decide) ?_
            have hd9 : ndB r (1 <<< (nI p &&& 31)) (j + 1 + 1) = true := by show (ndB r (1 <<< (nI p &&& 31)) (j + 1) && _) = _; rw [c_25, Bool.true_and]; exact (dm_p (hoursF_I hI (j + 1)) (by rw [nN_hoursF]; exact hp)).symm.trans (decide_eq_true c_38N)
            refine r_topi (x' := bI (ndB r (1 <<< (nI p &&& 31)) (j + 1 + 1))) (by rw [hd9]; rfl) ?_
            refine lv_istore_n (lv' := [(3, .int (bI (ndB r (1 <<< (nI p &&& 31)) (j + 1 + 1)))), (0, .ref (b 0)), (1, .int (nI p)), (2, .int (nI n)), (4, .int (nI j))]) hx hb dX8_staysWetFor_46 rfl hl (by decide) rfl (fun ls hl => ?_)
            refine lv_iinc (v := nI (j + 1)) (lv' := [(4, .int (nI (j + 1))), (3, .int (bI (ndB r (1 <<< (nI p &&& 31)) (j + 1 + 1)))), (0, .ref (b 0)), (1, .int (nI p)), (2, .int (nI n))]) hx hb dX8_staysWetFor_47 hl (k := 4) rfl (nI_1 j) (by decide) rfl (fun ls hl => ?_)
            refine lv_goto (tgt := 18) hx hb dX8_staysWetFor_50 (by decide) ?_
            exact ih_J (j + 1)  (by omega) (by omega)  _ _ _ (hw) (lv_sub hl [2, 3, 4, 1, 0] rfl)
  refine lv_aload_n hx hb dX8_staysWetFor_0 rfl (lv_at hl 0 rfl) ?_
  refine r_get cx hw in_X8 0 (ci := 1) (T := TX8) (N := 13) rfl rfl 4 (by decide) q185 (fun _ h9 => h9) rfl dX8_staysWetFor_1 ?_
  refine lv_iload_n hx hb dX8_staysWetFor_4 rfl (lv_at hl 1 rfl) ?_
  refine r_iald cx hw 4 rfl p rfl (by omega) (Nat.le_of_ble_eq_true rfl) dX8_staysWetFor_5 ?_
  refine r_topi (x' := r (5 + 7 * p + 3)) (rfl) ?_
  refine lv_if_le (tgt := 13) hx hb dX8_staysWetFor_6 (by decide) (fun c_6 => ?_) (fun c_6 => ?_)
  · skip
    have c_6N := Int32.not_lt.mpr c_6
    refine lv_iconst (v := 0) hx hb dX8_staysWetFor_13 (by decide) ?_
    refine r_topi (x' := bI (ndB r (1 <<< (nI p &&& 31)) 1)) (by rw [show ndB r (1 <<< (nI p &&& 31)) 1 = false from (dm_p hI hp).symm.trans (decide_eq_false c_6N)]; rfl) ?_
    refine lv_istore_n (lv' := [(3, .int (bI (ndB r (1 <<< (nI p &&& 31)) (0 + 1)))), (0, .ref (b 0)), (1, .int (nI p)), (2, .int (nI n))]) hx hb dX8_staysWetFor_14 rfl hl (by decide) rfl (fun ls hl => ?_)
    refine lv_iconst (v := 0) hx hb dX8_staysWetFor_15 (by decide) ?_
    refine lv_istore (lv' := [(4, .int 0), (3, .int (bI (ndB r (1 <<< (nI p &&& 31)) (0 + 1)))), (0, .ref (b 0)), (1, .int (nI p)), (2, .int (nI n))]) hx hb dX8_staysWetFor_16 hl (by decide) rfl (fun ls hl => ?_)
    exact J (n + 1) 0  (by omega) (by omega)  _ _ _ (hw) (lv_sub hl [2, 3, 4, 1, 0] rfl)
  · skip
    have c_6N := Int32.not_le.mp c_6
    refine lv_iconst (v := 1) hx hb dX8_staysWetFor_9 (by decide) ?_
    refine lv_goto (tgt := 14) hx hb dX8_staysWetFor_10 (by decide) ?_
    refine r_topi (x' := bI (ndB r (1 <<< (nI p &&& 31)) 1)) (by rw [show ndB r (1 <<< (nI p &&& 31)) 1 = true from (dm_p hI hp).symm.trans (decide_eq_true c_6N)]; rfl) ?_
    refine lv_istore_n (lv' := [(3, .int (bI (ndB r (1 <<< (nI p &&& 31)) (0 + 1)))), (0, .ref (b 0)), (1, .int (nI p)), (2, .int (nI n))]) hx hb dX8_staysWetFor_14 rfl hl (by decide) rfl (fun ls hl => ?_)
    refine lv_iconst (v := 0) hx hb dX8_staysWetFor_15 (by decide) ?_
    refine lv_istore (lv' := [(4, .int 0), (3, .int (bI (ndB r (1 <<< (nI p &&& 31)) (0 + 1)))), (0, .ref (b 0)), (1, .int (nI p)), (2, .int (nI n))]) hx hb dX8_staysWetFor_16 hl (by decide) rfl (fun ls hl => ?_)
    exact J (n + 1) 0  (by omega) (by omega)  _ _ _ (hw) (lv_sub hl [2, 3, 4, 1, 0] rfl)
