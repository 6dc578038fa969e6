/-! the reference: its methods, 6 -/
set_option maxRecDepth 100000
theorem upd_u (f : Nat → Int32) (k : Nat) (x y : Int32) : upd (upd f k x) k y = upd f k y := by
  funext q
  by_cases h : q = k
  · subst h; rw [upd_s, upd_s]
  · rw [upd_n h, upd_n h, upd_n h]
set_option maxHeartbeats 4000000 in
set_option maxRecDepth 100000 in
theorem kX9_here (l : Launch) (hl9 : l.stackTraces = false) (g : GG) (a : Nat → Nat) (s m im wa L R rf nu : Nat → Int32) (hi rn sd : Int32) (M k : Nat) (hM : M ≤ 96) (hk : k ≤ 2000)  : MC l yX9_here cX9_here 1 (some .int) 0 0 0 0 g [.ref (a 0)] (WM g a s m im wa L R rf nu hi (nI M) rn (nI k) sd) (rt (some (.int (hrF L M k))) (WM g a s m im wa L R rf nu hi (nI M) rn (nI k) sd)) (noX) := by
  refine MC.of (by decide) (Nat.le_of_ble_eq_true rfl) ?_
  intro p9 e9 s9 m9 args9 below9 meth9 c9 A9 ls cx htab hw hl
  have hx := cx.1
  have hb := cx.2.1
  have hts := cx.2.2.2.2.1
  have hK := cx.2.2.2.2.2.2.2.1
  have hl : lv_has ls 1 [(0, .ref (a 0))] := hl
  refine lv_aload_n hx hb dX9_here_0 rfl (lv_at hl 0 rfl) ?_
  refine r_get cx hw in_X9 0 (ci := 8) (T := TX9) (N := 13) rfl rfl 10 (by decide) q1179 (fun _ h9 => h9) rfl dX9_here_1 ?_
  refine lv_aload_n hx hb dX9_here_4 rfl (lv_at hl 0 rfl) ?_
  refine r_get cx hw in_X9 0 (ci := 8) (T := TX9) (N := 13) rfl rfl 8 (by decide) q1177 (fun _ h9 => h9) rfl dX9_here_5 ?_
  refine lv_icmp_ge (tgt := 23) hx hb dX9_here_8 (by decide) (fun c_8 => ?_) (fun c_8 => ?_)
  · skip
    have c_8 : M ≤ k := (nI_leI (a := M) (b := k) (by omega) (by omega)).mp c_8
    refine lv_iconst (v := (-1)) hx hb dX9_here_23 (by decide) ?_
    exact r_iret cx hw (⟨by rw [hrF, if_neg (by omega)], rfl⟩) (Nat.le_of_ble_eq_true rfl) (Nat.le_of_ble_eq_true rfl) dX9_here_24
  · skip
    have c_8 : k < M := Nat.not_le.mp (fun h9 => c_8 ((nI_leI (a := M) (b := k) (by omega) (by omega)).mpr h9))
    refine lv_aload_n hx hb dX9_here_11 rfl (lv_at hl 0 rfl) ?_
    refine r_get cx hw in_X9 0 (ci := 8) (T := TX9) (N := 13) rfl rfl 5 (by decide) q1174 (fun _ h9 => h9) rfl dX9_here_12 ?_
    refine lv_aload_n hx hb dX9_here_15 rfl (lv_at hl 0 rfl) ?_
    refine r_get cx hw in_X9 0 (ci := 8) (T := TX9) (N := 13) rfl rfl 10 (by decide) q1179 (fun _ h9 => h9) rfl dX9_here_16 ?_
    refine r_iald cx hw 5 rfl k rfl (by omega) (Nat.le_of_ble_eq_true rfl) dX9_here_19 ?_
    refine lv_goto (tgt := 24) hx hb dX9_here_20 (by decide) ?_
    exact r_iret cx hw (⟨by rw [hrF, if_pos c_8], rfl⟩) (Nat.le_of_ble_eq_true rfl) (Nat.le_of_ble_eq_true rfl) dX9_here_24

set_option maxHeartbeats 4000000 in
set_option maxRecDepth 100000 in
theorem kX9_kindBy (l : Launch) (hl9 : l.stackTraces = false) (g : GG) (c : Int32) : MC l yX9_kindBy cX9_kindBy 1 (some .int) 0 0 0 0 g [.int c] [] (rt (some (.int (kdF c))) []) (noX) := by
  refine MC.of (by decide) (Nat.le_of_ble_eq_true rfl) ?_
  intro p9 e9 s9 m9 args9 below9 meth9 c9 A9 ls cx htab hw hl
  have hx := cx.1
  have hb := cx.2.1
  have hts := cx.2.2.2.2.1
  have hK := cx.2.2.2.2.2.2.2.1
  have hl : lv_has ls 1 [(0, .int c)] := hl
  refine lv_iload_n hx hb dX9_kindBy_0 rfl (lv_at hl 0 rfl) ?_
  by_cases t_1_108 : c = 108
  · skip
    refine lv_tableIn (tgt := 74) hx hb dX9_kindBy_1 (by rw [t_1_108]; decide) (by rw [t_1_108]; decide) (by rw [t_1_108]; rfl) (by decide) ?_
    refine lv_iconst (v := 5) hx hb dX9_kindBy_74 (by decide) ?_
    exact r_iret cx hw (⟨by simp [kdF, t_1_108], rfl⟩) (Nat.le_of_ble_eq_true rfl) (Nat.le_of_ble_eq_true rfl) dX9_kindBy_75
  by_cases t_1_109 : c = 109
  · skip
    refine lv_tableIn (tgt := 70) hx hb dX9_kindBy_1 (by rw [t_1_109]; decide) (by rw [t_1_109]; decide) (by rw [t_1_109]; rfl) (by decide) ?_
    refine lv_iconst (v := 3) hx hb dX9_kindBy_70 (by decide) ?_
    exact r_iret cx hw (⟨by simp [kdF, t_1_109, t_1_108], rfl⟩) (Nat.le_of_ble_eq_true rfl) (Nat.le_of_ble_eq_true rfl) dX9_kindBy_71
  by_cases t_1_110 : c = 110
  · skip
    refine lv_tableIn (tgt := 76) hx hb dX9_kindBy_1 (by rw [t_1_110]; decide) (by rw [t_1_110]; decide) (by rw [t_1_110]; rfl) (by decide) ?_
    refine lv_bipush (v := (-9)) hx hb dX9_kindBy_76 (by decide) ?_
    exact r_iret cx hw (⟨by simp [kdF, t_1_110, t_1_108, t_1_109], rfl⟩) (Nat.le_of_ble_eq_true rfl) (Nat.le_of_ble_eq_true rfl) dX9_kindBy_78
  by_cases t_1_111 : c = 111
  · skip
    refine lv_tableIn (tgt := 76) hx hb dX9_kindBy_1 (by rw [t_1_111]; decide) (by rw [t_1_111]; decide) (by rw [t_1_111]; rfl) (by decide) ?_
    refine lv_bipush (v := (-9)) hx hb dX9_kindBy_76 (by decide) ?_
    exact r_iret cx hw (⟨by simp [kdF, t_1_111, t_1_108, t_1_109, t_1_110], rfl⟩) (Nat.le_of_ble_eq_true rfl) (Nat.le_of_ble_eq_true rfl) dX9_kindBy_78
  by_cases t_1_112 : c = 112
  · skip
    refine lv_tableIn (tgt := 64) hx hb dX9_kindBy_1 (by rw [t_1_112]; decide) (by rw [t_1_112]; decide) (by rw [t_1_112]; rfl) (by decide) ?_
    refine lv_iconst (v := 0) hx hb dX9_kindBy_64 (by decide) ?_
    exact r_iret cx hw (⟨by simp [kdF, t_1_112, t_1_108, t_1_109, t_1_110, t_1_111], rfl⟩) (Nat.le_of_ble_eq_true rfl) (Nat.le_of_ble_eq_true rfl) dX9_kindBy_65
  by_cases t_1_113 : c = 113
  · skip
    refine lv_tableIn (tgt := 76) hx hb dX9_kindBy_1 (by rw [t_1_113]; decide) (by rw [t_1_113]; decide) (by rw [t_1_113]; rfl) (by decide) ?_
    refine lv_bipush (v := (-9)) hx hb dX9_kindBy_76 (by decide) ?_
    exact r_iret cx hw (⟨by simp [kdF, t_1_113, t_1_108, t_1_109, t_1_110, t_1_111, t_1_112], rfl⟩) (Nat.le_of_ble_eq_true rfl) (Nat.le_of_ble_eq_true rfl) dX9_kindBy_78
  by_cases t_1_114 : c = 114
  · skip
    refine lv_tableIn (tgt := 76) hx hb dX9_kindBy_1 (by rw [t_1_114]; decide) (by rw [t_1_114]; decide) (by rw [t_1_114]; rfl) (by decide) ?_
    refine lv_bipush (v := (-9)) hx hb dX9_kindBy_76 (by decide) ?_
    exact r_iret cx hw (⟨by simp [kdF, t_1_114, t_1_108, t_1_109, t_1_110, t_1_111, t_1_112, t_1_113], rfl⟩) (Nat.le_of_ble_eq_true rfl) (Nat.le_of_ble_eq_true rfl) dX9_kindBy_78
  by_cases t_1_115 : c = 115
  · skip
    refine lv_tableIn (tgt := 68) hx hb dX9_kindBy_1 (by rw [t_1_115]; decide) (by rw [t_1_115]; decide) (by rw [t_1_115]; rfl) (by decide) ?_
    refine lv_iconst (v := 2) hx hb dX9_kindBy_68 (by decide) ?_
    exact r_iret cx hw (⟨by simp [kdF, t_1_115, t_1_108, t_1_109, t_1_110, t_1_111, t_1_112, t_1_113, t_1_114], rfl⟩) (Nat.le_of_ble_eq_true rfl) (Nat.le_of_ble_eq_true rfl) dX9_kindBy_69
  by_cases t_1_116 : c = 116
  · skip
    refine lv_tableIn (tgt := 72) hx hb dX9_kindBy_1 (by rw [t_1_116]; decide) (by rw [t_1_116]; decide) (by rw [t_1_116]; rfl) (by decide) ?_
    refine lv_iconst (v := 4) hx hb dX9_kindBy_72 (by decide) ?_
    exact r_iret cx hw (⟨by simp [kdF, t_1_116, t_1_108, t_1_109, t_1_110, t_1_111, t_1_112, t_1_113, t_1_114, t_1_115], rfl⟩) (Nat.le_of_ble_eq_true rfl) (Nat.le_of_ble_eq_true rfl) dX9_kindBy_73
  by_cases t_1_117 : c = 117
  · skip
    refine lv_tableIn (tgt := 76) hx hb dX9_kindBy_1 (by rw [t_1_117]; decide) (by rw [t_1_117]; decide) (by rw [t_1_117]; rfl) (by decide) ?_
    refine lv_bipush (v := (-9)) hx hb dX9_kindBy_76 (by decide) ?_
    exact r_iret cx hw (⟨by simp [kdF, t_1_117, t_1_108, t_1_109, t_1_110, t_1_111, t_1_112, t_1_113, t_1_114, t_1_115, t_1_116], rfl⟩) (Nat.le_of_ble_eq_true rfl) (Nat.le_of_ble_eq_true rfl) dX9_kindBy_78
  by_cases t_1_118 : c = 118
  · skip
    refine lv_tableIn (tgt := 76) hx hb dX9_kindBy_1 (by rw [t_1_118]; decide) (by rw [t_1_118]; decide) (by rw [t_1_118]; rfl) (by decide) ?_
    refine lv_bipush (v := (-9)) hx hb dX9_kindBy_76 (by decide) ?_
    exact r_iret cx hw (⟨by simp [kdF, t_1_118, t_1_108, t_1_109, t_1_110, t_1_111, t_1_112, t_1_113, t_1_114, t_1_115, t_1_116, t_1_117], rfl⟩) (Nat.le_of_ble_eq_true rfl) (Nat.le_of_ble_eq_true rfl) dX9_kindBy_78
  by_cases t_1_119 : c = 119
  · skip
    refine lv_tableIn (tgt := 66) hx hb dX9_kindBy_1 (by rw [t_1_119]; decide) (by rw [t_1_119]; decide) (by rw [t_1_119]; rfl) (by decide) ?_
    refine lv_iconst (v := 1) hx hb dX9_kindBy_66 (by decide) ?_
    exact r_iret cx hw (⟨by simp [kdF, t_1_119, t_1_108, t_1_109, t_1_110, t_1_111, t_1_112, t_1_113, t_1_114, t_1_115, t_1_116, t_1_117, t_1_118], rfl⟩) (Nat.le_of_ble_eq_true rfl) (Nat.le_of_ble_eq_true rfl) dX9_kindBy_67
  refine lv_tableOut (tgt := 76) hx hb dX9_kindBy_1 (by have : ¬ (c).toInt = 108 := lv_neT t_1_108 rfl; have : ¬ (c).toInt = 109 := lv_neT t_1_109 rfl; have : ¬ (c).toInt = 110 := lv_neT t_1_110 rfl; have : ¬ (c).toInt = 111 := lv_neT t_1_111 rfl; have : ¬ (c).toInt = 112 := lv_neT t_1_112 rfl; have : ¬ (c).toInt = 113 := lv_neT t_1_113 rfl; have : ¬ (c).toInt = 114 := lv_neT t_1_114 rfl; have : ¬ (c).toInt = 115 := lv_neT t_1_115 rfl; have : ¬ (c).toInt = 116 := lv_neT t_1_116 rfl; have : ¬ (c).toInt = 117 := lv_neT t_1_117 rfl; have : ¬ (c).toInt = 118 := lv_neT t_1_118 rfl; have : ¬ (c).toInt = 119 := lv_neT t_1_119 rfl; omega) (by decide) ?_
  refine lv_bipush (v := (-9)) hx hb dX9_kindBy_76 (by decide) ?_
  exact r_iret cx hw (⟨by simp [kdF, t_1_108, t_1_109, t_1_110, t_1_111, t_1_112, t_1_113, t_1_114, t_1_115, t_1_116, t_1_117, t_1_118, t_1_119], rfl⟩) (Nat.le_of_ble_eq_true rfl) (Nat.le_of_ble_eq_true rfl) dX9_kindBy_78

set_option maxHeartbeats 4000000 in
set_option maxRecDepth 100000 in
theorem kX9_readsNumber (l : Launch) (hl9 : l.stackTraces = false) (g : GG) (a : Nat → Nat) (s m im wa L R rf nu : Nat → Int32) (hi rn sd : Int32) (M k : Nat) (hM : M ≤ 96) (hk : k ≤ 1000) (j d : Nat) (hj : j < 3) (hd : d ≤ 2) : MC l yX9_readsNumber cX9_readsNumber 4 (some .boolean) 1 22 0 0 g [.ref (a 0), .int (nI j), .int (nI d)] (WM g a s m im wa L R rf nu hi (nI M) rn (nI k) sd) (rtP (α := Nat → Int32) (fun x9 => alB (fun i => dgB L M (k + i)) d = true → x9 = upd nu j (dgV L M k d)) (some (.int (bI (alB (fun i => dgB L M (k + i)) d)))) (fun x9 => WM g a s m im wa L R rf x9 hi (nI M) rn (nI (ldC (dgB L M) d k)) sd)) (noX) := by
  refine MC.of (by decide) (Nat.le_of_ble_eq_true rfl) ?_
  intro p9 e9 s9 m9 args9 below9 meth9 c9 A9 ls cx htab hw hl
  have hx := cx.1
  have hb := cx.2.1
  have hts := cx.2.2.2.2.1
  have hK := cx.2.2.2.2.2.2.2.1
  have hl : lv_has ls 4 [(0, .ref (a 0)), (1, .int (nI j)), (2, .int (nI d))] := hl
  have J : ∀ (n9 i : Nat) , i ≤ d → d < n9 + i → alB (fun i => dgB L M (k + i)) i = true → ldC (dgB L M) d k = ldC (dgB L M) (k + d - (k + i)) (k + i) → ∀ (H : Heap) (locs : List Loc) (ls : Array Slot), WS g A9 s9.heap (WM g a s m im wa L R rf (upd nu j (dgV L M k i)) hi (nI M) rn (nI (k + i)) sd) H locs → lv_has ls 4 [(0, .ref (a 0)), (1, .int (nI j)), (2, .int (nI d)), (3, .int (nI i))] → W p9 l e9 (rmC 1 22 0 0) s9 m9 args9 below9 meth9 c9 H locs 0 0 (vx_MQ below9 (PostA g A9 (rtP (α := Nat → Int32) (fun x9 => alB (fun i => dgB L M (k + i)) d = true → x9 = upd nu j (dgV L M k d)) (some (.int (bI (alB (fun i => dgB L M (k + i)) d)))) (fun x9 => WM g a s m im wa L R rf x9 hi (nI M) rn (nI (ldC (dgB L M) d k)) sd))) (PxA g A9 (pxR (noX))) args9 s9 0 0 A9) (F0 m9 9 ls []) := by
    intro n9
    induction n9 with
    | zero => intro i  hj hk9; exact absurd hk9 (by omega)
    | succ n9 ih_J =>
      intro i  hj hk9 hv hp H locs ls hw hl
      refine lv_iload_n hx hb dX9_readsNumber_9 rfl (lv_at hl 3 rfl) ?_
      refine lv_iload_n hx hb dX9_readsNumber_10 rfl (lv_at hl 2 rfl) ?_
      refine lv_icmp_ge (tgt := 69) hx hb dX9_readsNumber_11 (by decide) (fun c_11 => ?_) (fun c_11 => ?_)
      · skip
        have c_11 : d ≤ i := (nI_leI (a := d) (b := i) (by omega) (by omega)).mp c_11
        refine lv_iconst (v := 1) hx hb dX9_readsNumber_69 (by decide) ?_
        exact r_zret (by decide) cx hw (⟨_, fun _ => by rw [show d = i by omega], by rw [show d = i by omega, hv]; rfl, by rw [hp, ldC_e (by omega)]⟩) (Nat.le_of_ble_eq_true rfl) (Nat.le_of_ble_eq_true rfl) dX9_readsNumber_70
      · skip
        have c_11 : i < d := Nat.not_le.mp (fun h9 => c_11 ((nI_leI (a := d) (b := i) (by omega) (by omega)).mpr h9))
        refine lv_aload_n hx hb dX9_readsNumber_14 rfl (lv_at hl 0 rfl) ?_
        refine r_det (r_V cx hw (kX9_here l hl9 g a s m im wa L R rf (upd nu j (dgV L M k i)) hi rn sd M (k + i) (by omega) (by omega) ) (cwV 0 hts (lw_V q1225 q1227 qs67 q94 q1228) rfl rfl rfl (by decide +kernel) ⟨Nat.le_of_ble_eq_true rfl, Nat.le_of_ble_eq_true rfl⟩) (r_recv hK hw (k := 0) (ci := 8) rfl rfl) [0, 1, 2, 3, 4, 5, 6, 7, 8] rfl rfl rfl hl.1 rfl (Nat.le_of_ble_eq_true rfl) dX9_readsNumber_15 ⟨Nat.le_of_ble_eq_true rfl, Nat.le_of_ble_eq_true rfl⟩) cx hw [0, 1, 2, 3, 4, 5, 6, 7, 8] rfl rfl WM_adr (ws' := WM g a s m im wa L R rf (upd nu j (dgV L M k i)) hi (nI M) rn (nI (k + i)) sd) (rfl) (fun H locs hw => ?_)
        refine W.eq (g2 := F0 m9 18 ls [.int (hrF L M (k + i))]) rfl ?_
        refine lv_bipush (v := 48) hx hb dX9_readsNumber_18 (by decide) ?_
        refine lv_bipush (v := 57) hx hb dX9_readsNumber_20 (by decide) ?_
        refine r_det (r_S cx hw (kX9_isIn l hl9 g (hrF L M (k + i)) 48 57) (va_cwS 3 hts (lw_S q1240 q1241 q94 q1242) rfl rfl rfl (by decide +kernel) ⟨Nat.le_of_ble_eq_true rfl, Nat.le_of_ble_eq_true rfl⟩) [] rfl rfl rfl hl.1 rfl (Nat.le_of_ble_eq_true rfl) dX9_readsNumber_22 ⟨Nat.le_of_ble_eq_true rfl, Nat.le_of_ble_eq_true rfl⟩) cx hw [] rfl rfl rfl (ws' := WM g a s m im wa L R rf (upd nu j (dgV L M k i)) hi (nI M) rn (nI (k + i)) sd) (rfl) (fun H locs hw => ?_)
        refine W.eq (g2 := F0 m9 25 ls [.int (bI (isInB (hrF L M (k + i)) 48 57))]) rfl ?_
        refine lv_if_ne (tgt := 30) hx hb dX9_readsNumber_25 (by decide) (fun c_25 => ?_) (fun c_25 => ?_)
        · skip
          have c_25 := bI_n0 c_25
          refine lv_aload_n hx hb dX9_readsNumber_30 rfl (lv_at hl 0 rfl) ?_
          refine r_get cx hw in_X9 0 (ci := 8) (T := TX9) (N := 13) rfl rfl 11 (by decide) q1180 (fun _ h9 => h9) rfl dX9_readsNumber_31 ?_
          refine lv_iload_n hx hb dX9_readsNumber_34 rfl (lv_at hl 1 rfl) ?_
          refine lv_bipush (v := 10) hx hb dX9_readsNumber_35 (by decide) ?_
          refine lv_aload_n hx hb dX9_readsNumber_37 rfl (lv_at hl 0 rfl) ?_
          refine r_get cx hw in_X9 0 (ci := 8) (T := TX9) (N := 13) rfl rfl 11 (by decide) q1180 (fun _ h9 => h9) rfl dX9_readsNumber_38 ?_
          refine lv_iload_n hx hb dX9_readsNumber_41 rfl (lv_at hl 1 rfl) ?_
          refine r_iald cx hw 8 rfl j rfl (by omega) (Nat.le_of_ble_eq_true rfl) dX9_readsNumber_42 ?_
          refine r_topi (x' := dgV L M k i) (upd_s _ _ _) ?_
          refine lv_imul hx hb dX9_readsNumber_43 ?_
          refine lv_aload_n hx hb dX9_readsNumber_44 rfl (lv_at hl 0 rfl) ?_
          refine r_det (r_V cx hw (kX9_here l hl9 g a s m im wa L R rf (upd nu j (dgV L M k i)) hi rn sd M (k + i) (by omega) (by omega) ) (cwV 0 hts (lw_V q1225 q1227 qs67 q94 q1228) rfl rfl rfl (by decide +kernel) ⟨Nat.le_of_ble_eq_true rfl, Nat.le_of_ble_eq_true rfl⟩) (r_recv hK hw (k := 0) (ci := 8) rfl rfl) [0, 1, 2, 3, 4, 5, 6, 7, 8] rfl rfl rfl hl.1 rfl (Nat.le_of_ble_eq_true rfl) dX9_readsNumber_45 ⟨Nat.le_of_ble_eq_true rfl, Nat.le_of_ble_eq_true rfl⟩) cx hw [0, 1, 2, 3, 4, 5, 6, 7, 8] rfl rfl WM_adr (ws' := WM g a s m im wa L R rf (upd nu j (dgV L M k i)) hi (nI M) rn (nI (k + i)) sd) (rfl) (fun H locs hw => ?_)
          refine W.eq (g2 := F0 m9 48 ls [.int (hrF L M (k + i)), .int (10 * (dgV L M k i)), .int (nI j), .ref (a 8)]) rfl ?_
          refine lv_iadd hx hb dX9_readsNumber_48 ?_
          refine lv_bipush (v := 48) hx hb dX9_readsNumber_49 (by decide) ?_
          refine lv_isub hx hb dX9_readsNumber_51 ?_
          refine r_topi (x' := dgV L M k (i + 1)) (rfl) ?_
          refine r_iast cx hw 8 rfl j rfl (by omega) (Nat.le_of_ble_eq_true rfl) dX9_readsNumber_52 (fun H locs hw => ?_)
          have hw : WS g A9 s9.heap (WM g a s m im wa L R rf (upd (upd nu j (dgV L M k i)) j (dgV L M k (i + 1))) hi (nI M) rn (nI (k + i)) sd) H locs := hw
          refine lv_aload_n hx hb dX9_readsNumber_53 rfl (lv_at hl 0 rfl) ?_
          refine lv_dup hx hb dX9_readsNumber_54 rfl ?_
          refine r_get cx hw in_X9 0 (ci := 8) (T := TX9) (N := 13) rfl rfl 10 (by decide) q1179 (fun _ h9 => h9) rfl dX9_readsNumber_55 ?_
          refine lv_iconst (v := 1) hx hb dX9_readsNumber_58 (by decide) ?_
          refine lv_iadd hx hb dX9_readsNumber_59 ?_
          refine r_topi (x' := nI (k + i + 1)) (nI_add (k + i) 1) ?_
          refine r_put cx hw in_X9 tyX9 tyX9_ok nmX9 0 (ci := 8) (T := TX9) (N := 13) rfl rfl 10 (by decide) q1179 (fun _ h9 => h9) rfl (rfl) (rfl) (Nat.le_of_ble_eq_true rfl) dX9_readsNumber_60 (fun H locs hw => ?_)
          have hw : WS g A9 s9.heap (WM g a s m im wa L R rf (upd (upd nu j (dgV L M k i)) j (dgV L M k (i + 1))) hi (nI M) rn (nI (k + i + 1)) sd) H locs := hw
          refine lv_iinc (v := nI (i + 1)) (lv' := [(3, .int (nI (i + 1))), (0, .ref (a 0)), (1, .int (nI j)), (2, .int (nI d))]) hx hb dX9_readsNumber_63 hl (k := 3) rfl (nI_1 i) (by decide) rfl (fun ls hl => ?_)
          refine lv_goto (tgt := 9) hx hb dX9_readsNumber_66 (by decide) ?_
          exact ih_J (i + 1)  (by omega) (by omega) (by rw [alB, hv]; exact c_25) (hp.trans (ldC_t (c := fun q => dgB L M q) (by omega) c_25)) _ _ _ (WS.to hw (by rw [upd_u]; rfl)) (lv_sub hl [1, 2, 3, 0] rfl)
        · skip
          have c_25 := bI_e0 c_25
          refine lv_iconst (v := 0) hx hb dX9_readsNumber_28 (by decide) ?_
          exact r_zret (by decide) cx hw (⟨_, fun h9 => absurd h9 (by rw [alB_f (j := i) (by omega) c_25]; decide), by rw [alB_f (j := i) (by omega) c_25]; rfl, by rw [hp, ldC_f (by omega) c_25]⟩) (Nat.le_of_ble_eq_true rfl) (Nat.le_of_ble_eq_true rfl) dX9_readsNumber_29
  refine lv_aload_n hx hb dX9_readsNumber_0 rfl (lv_at hl 0 rfl) ?_
  refine r_get cx hw in_X9 0 (ci := 8) (T := TX9) (N := 13) rfl rfl 11 (by decide) q1180 (fun _ h9 => h9) rfl dX9_readsNumber_1 ?_
  refine lv_iload_n hx hb dX9_readsNumber_4 rfl (lv_at hl 1 rfl) ?_
  refine lv_iconst (v := 0) hx hb dX9_readsNumber_5 (by decide) ?_
  refine r_iast cx hw 8 rfl j rfl (by omega) (Nat.le_of_ble_eq_true rfl) dX9_readsNumber_6 (fun H locs hw => ?_)
  have hw : WS g A9 s9.heap (WM g a s m im wa L R rf (upd nu j 0) hi (nI M) rn (nI k) sd) H locs := hw
  refine lv_iconst (v := 0) hx hb dX9_readsNumber_7 (by decide) ?_
  refine lv_istore_n (lv' := [(3, .int 0), (0, .ref (a 0)), (1, .int (nI j)), (2, .int (nI d))]) hx hb dX9_readsNumber_8 rfl hl (by decide) rfl (fun ls hl => ?_)
  exact J (d + 1) 0  (by omega) (by omega) rfl (by rw [show k + d - (k + 0) = d by omega]; rfl) _ _ _ (hw) (lv_sub hl [1, 2, 3, 0] rfl)

set_option maxHeartbeats 4000000 in
set_option maxRecDepth 100000 in
theorem kX9_readsKind (l : Launch) (hl9 : l.stackTraces = false) (g : GG) (a : Nat → Nat) (s m im wa L R rf nu : Nat → Int32) (hi rn sd : Int32) (M k : Nat) (hM : M ≤ 96) (hk : k ≤ 1000)  : MC l yX9_readsKind cX9_readsKind 1 (some .boolean) 1 20 0 0 g [.ref (a 0)] (WM g a s m im wa L R rf nu hi (nI M) rn (nI k) sd) (rt (some (.int (bI (decide (0 ≤ kdF (hrF L M k)))))) (WM g a s m im wa L R rf (upd nu 0 (kdF (hrF L M k))) hi (nI M) rn (nI (if 0 ≤ kdF (hrF L M k) then k + 1 else k)) sd)) (noX) := by
  refine MC.of (by decide) (Nat.le_of_ble_eq_true rfl) ?_
  intro p9 e9 s9 m9 args9 below9 meth9 c9 A9 ls cx htab hw hl
  have hx := cx.1
  have hb := cx.2.1
  have hts := cx.2.2.2.2.1
  have hK := cx.2.2.2.2.2.2.2.1
  have hl : lv_has ls 1 [(0, .ref (a 0))] := hl
  refine lv_aload_n hx hb dX9_readsKind_0 rfl (lv_at hl 0 rfl) ?_
  refine r_get cx hw in_X9 0 (ci := 8) (T := TX9) (N := 13) rfl rfl 11 (by decide) q1180 (fun _ h9 => h9) rfl dX9_readsKind_1 ?_
  refine lv_iconst (v := 0) hx hb dX9_readsKind_4 (by decide) ?_
  refine lv_aload_n hx hb dX9_readsKind_5 rfl (lv_at hl 0 rfl) ?_
  refine r_det (r_V cx hw (kX9_here l hl9 g a s m im wa L R rf nu hi rn sd M k (by omega) (by omega) ) (cwV 0 hts (lw_V q1225 q1227 qs67 q94 q1228) rfl rfl rfl (by decide +kernel) ⟨Nat.le_of_ble_eq_true rfl, Nat.le_of_ble_eq_true rfl⟩) (r_recv hK hw (k := 0) (ci := 8) rfl rfl) [0, 1, 2, 3, 4, 5, 6, 7, 8] rfl rfl rfl hl.1 rfl (Nat.le_of_ble_eq_true rfl) dX9_readsKind_6 ⟨Nat.le_of_ble_eq_true rfl, Nat.le_of_ble_eq_true rfl⟩) cx hw [0, 1, 2, 3, 4, 5, 6, 7, 8] rfl rfl WM_adr (ws' := WM g a s m im wa L R rf nu hi (nI M) rn (nI k) sd) (rfl) (fun H locs hw => ?_)
  refine W.eq (g2 := F0 m9 9 ls [.int (hrF L M k), .int 0, .ref (a 8)]) rfl ?_
  refine r_det (r_S cx hw (kX9_kindBy l hl9 g (hrF L M k)) (va_cwS 1 hts (lw_S q1233 q1234 q94 q1235) rfl rfl rfl (by decide +kernel) ⟨Nat.le_of_ble_eq_true rfl, Nat.le_of_ble_eq_true rfl⟩) [] rfl rfl rfl hl.1 rfl (Nat.le_of_ble_eq_true rfl) dX9_readsKind_9 ⟨Nat.le_of_ble_eq_true rfl, Nat.le_of_ble_eq_true rfl⟩) cx hw [] rfl rfl rfl (ws' := WM g a s m im wa L R rf nu hi (nI M) rn (nI k) sd) (rfl) (fun H locs hw => ?_)
  refine W.eq (g2 := F0 m9 12 ls [.int (kdF (hrF L M k)), .int 0, .ref (a 8)]) rfl ?_
  refine r_iast cx hw 8 rfl 0 rfl (by omega) (Nat.le_of_ble_eq_true rfl) dX9_readsKind_12 (fun H locs hw => ?_)
  have hw : WS g A9 s9.heap (WM g a s m im wa L R rf (upd nu 0 (kdF (hrF L M k))) hi (nI M) rn (nI k) sd) H locs := hw
  refine lv_aload_n hx hb dX9_readsKind_13 rfl (lv_at hl 0 rfl) ?_
  refine lv_dup hx hb dX9_readsKind_14 rfl ?_
  refine r_get cx hw in_X9 0 (ci := 8) (T := TX9) (N := 13) rfl rfl 10 (by decide) q1179 (fun _ h9 => h9) rfl dX9_readsKind_15 ?_
  refine lv_aload_n hx hb dX9_readsKind_18 rfl (lv_at hl 0 rfl) ?_
  refine r_get cx hw in_X9 0 (ci := 8) (T := TX9) (N := 13) rfl rfl 11 (by decide) q1180 (fun _ h9 => h9) rfl dX9_readsKind_19 ?_
  refine lv_iconst (v := 0) hx hb dX9_readsKind_22 (by decide) ?_
  refine r_iald cx hw 8 rfl 0 rfl (by omega) (Nat.le_of_ble_eq_true rfl) dX9_readsKind_23 ?_
  refine r_topi (x' := kdF (hrF L M k)) (upd_s _ _ _) ?_
  refine lv_if_ge (tgt := 31) hx hb dX9_readsKind_24 (by decide) (fun c_24 => ?_) (fun c_24 => ?_)
  · skip
    refine lv_iconst (v := 1) hx hb dX9_readsKind_31 (by decide) ?_
    refine r_topi (x' := nI (if 0 ≤ kdF (hrF L M k) then 1 else 0)) (by rw [if_pos c_24]; rfl) ?_
    refine lv_iadd hx hb dX9_readsKind_32 ?_
    refine r_topi (x' := nI (k + (if 0 ≤ kdF (hrF L M k) then 1 else 0))) (nI_add k (if 0 ≤ kdF (hrF L M k) then 1 else 0)) ?_
    refine r_put cx hw in_X9 tyX9 tyX9_ok nmX9 0 (ci := 8) (T := TX9) (N := 13) rfl rfl 10 (by decide) q1179 (fun _ h9 => h9) rfl (rfl) (rfl) (Nat.le_of_ble_eq_true rfl) dX9_readsKind_33 (fun H locs hw => ?_)
    have hw : WS g A9 s9.heap (WM g a s m im wa L R rf (upd nu 0 (kdF (hrF L M k))) hi (nI M) rn (nI (k + (if 0 ≤ kdF (hrF L M k) then 1 else 0))) sd) H locs := hw
    have hw : WS g A9 s9.heap (WM g a s m im wa L R rf (upd nu 0 (kdF (hrF L M k))) hi (nI M) rn (nI (if 0 ≤ kdF (hrF L M k) then k + 1 else k)) sd) H locs := WS.to hw (by rw [show k + (if 0 ≤ kdF (hrF L M k) then 1 else 0) = if 0 ≤ kdF (hrF L M k) then k + 1 else k by split <;> rfl])
    refine lv_aload_n hx hb dX9_readsKind_36 rfl (lv_at hl 0 rfl) ?_
    refine r_get cx hw in_X9 0 (ci := 8) (T := TX9) (N := 13) rfl rfl 11 (by decide) q1180 (fun _ h9 => h9) rfl dX9_readsKind_37 ?_
    refine lv_iconst (v := 0) hx hb dX9_readsKind_40 (by decide) ?_
    refine r_iald cx hw 8 rfl 0 rfl (by omega) (Nat.le_of_ble_eq_true rfl) dX9_readsKind_41 ?_
    refine r_topi (x' := kdF (hrF L M k)) (upd_s _ _ _) ?_
    refine lv_if_lt (tgt := 49) hx hb dX9_readsKind_42 (by decide) (fun c_42 => ?_) (fun c_42 => ?_)
    · skip
      refine lv_iconst (v := 0) hx hb dX9_readsKind_49 (by decide) ?_
      exact r_zret (by decide) cx hw (⟨by rw [decide_eq_false (Int32.not_le.mpr c_42)]; rfl, rfl⟩) (Nat.le_of_ble_eq_true rfl) (Nat.le_of_ble_eq_true rfl) dX9_readsKind_50
    · skip
      refine lv_iconst (v := 1) hx hb dX9_readsKind_45 (by decide) ?_
      refine lv_goto (tgt := 50) hx hb dX9_readsKind_46 (by decide) ?_
      exact r_zret (by decide) cx hw (⟨by rw [decide_eq_true (Int32.not_lt.mp c_42)]; rfl, rfl⟩) (Nat.le_of_ble_eq_true rfl) (Nat.le_of_ble_eq_true rfl) dX9_readsKind_50
  · skip
    refine lv_iconst (v := 0) hx hb dX9_readsKind_27 (by decide) ?_
    refine lv_goto (tgt := 32) hx hb dX9_readsKind_28 (by decide) ?_
    refine r_topi (x' := nI (if 0 ≤ kdF (hrF L M k) then 1 else 0)) (by rw [if_neg c_24]; rfl) ?_
    refine lv_iadd hx hb dX9_readsKind_32 ?_
    refine r_topi (x' := nI (k + (if 0 ≤ kdF (hrF L M k) then 1 else 0))) (nI_add k (if 0 ≤ kdF (hrF L M k) then 1 else 0)) ?_
    refine r_put cx hw in_X9 tyX9 tyX9_ok nmX9 0 (ci := 8) (T := TX9) (N := 13) rfl rfl 10 (by decide) q1179 (fun _ h9 => h9) rfl (rfl) (rfl) (Nat.le_of_ble_eq_true rfl) dX9_readsKind_33 (fun H locs hw => ?_)
    have hw : WS g A9 s9.heap (WM g a s m im wa L R rf (upd nu 0 (kdF (hrF L M k))) hi (nI M) rn (nI (k + (if 0 ≤ kdF (hrF L M k) then 1 else 0))) sd) H locs := hw
    have hw : WS g A9 s9.heap (WM g a s m im wa L R rf (upd nu 0 (kdF (hrF L M k))) hi (nI M) rn (nI (if 0 ≤ kdF (hrF L M k) then k + 1 else k)) sd) H locs := WS.to hw (by rw [show k + (if 0 ≤ kdF (hrF L M k) then 1 else 0) = if 0 ≤ kdF (hrF L M k) then k + 1 else k by split <;> rfl])
    refine lv_aload_n hx hb dX9_readsKind_36 rfl (lv_at hl 0 rfl) ?_
    refine r_get cx hw in_X9 0 (ci := 8) (T := TX9) (N := 13) rfl rfl 11 (by decide) q1180 (fun _ h9 => h9) rfl dX9_readsKind_37 ?_
    refine lv_iconst (v := 0) hx hb dX9_readsKind_40 (by decide) ?_
    refine r_iald cx hw 8 rfl 0 rfl (by omega) (Nat.le_of_ble_eq_true rfl) dX9_readsKind_41 ?_
    refine r_topi (x' := kdF (hrF L M k)) (upd_s _ _ _) ?_
    refine lv_if_lt (tgt := 49) hx hb dX9_readsKind_42 (by decide) (fun c_42 => ?_) (fun c_42 => ?_)
    · skip
      refine lv_iconst (v := 0) hx hb dX9_readsKind_49 (by decide) ?_
      exact r_zret (by decide) cx hw (⟨by rw [decide_eq_false (Int32.not_le.mpr c_42)]; rfl, rfl⟩) (Nat.le_of_ble_eq_true rfl) (Nat.le_of_ble_eq_true rfl) dX9_readsKind_50
    · skip
      refine lv_iconst (v := 1) hx hb dX9_readsKind_45 (by decide) ?_
      refine lv_goto (tgt := 50) hx hb dX9_readsKind_46 (by decide) ?_
      exact r_zret (by decide) cx hw (⟨by rw [decide_eq_true (Int32.not_lt.mp c_42)]; rfl, rfl⟩) (Nat.le_of_ble_eq_true rfl) (Nat.le_of_ble_eq_true rfl) dX9_readsKind_50

set_option maxHeartbeats 4000000 in
set_option maxRecDepth 100000 in
theorem kX9_readsStatement (l : Launch) (hl9 : l.stackTraces = false) (g : GG) (a : Nat → Nat) (s m im wa L R rf nu : Nat → Int32) (hi rn sd : Int32) (M k : Nat) (hM : M ≤ 96) (hk : k ≤ 900)  : MC l yX9_readsStatement cX9_readsStatement 3 (some .boolean) 2 45 0 0 g [.ref (a 0)] (WM g a s m im wa L R rf nu hi (nI M) rn (nI k) sd) (rtP (α := Nat → Int32) (fun x9 => stB L M k = true → nuOK L M k x9) (some (.int (bI (stB L M k)))) (fun x9 => WM g a s m im wa L R rf x9 hi (nI M) rn (nI (stP L M k)) sd)) (noX) := by
  refine MC.of (by decide) (Nat.le_of_ble_eq_true rfl) ?_
  intro p9 e9 s9 m9 args9 below9 meth9 c9 A9 ls cx htab hw hl
  have hx := cx.1
  have hb := cx.2.1
  have hts := cx.2.2.2.2.1
  have hK := cx.2.2.2.2.2.2.2.1
  have hl : lv_has ls 3 [(0, .ref (a 0))] := hl
  refine lv_aload_n hx hb dX9_readsStatement_0 rfl (lv_at hl 0 rfl) ?_
  refine r_det (r_V cx hw (kX9_here l hl9 g a s m im wa L R rf nu hi rn sd M k (by omega) (by omega) ) (cwV 0 hts (lw_V q1225 q1227 qs67 q94 q1228) rfl rfl rfl (by decide +kernel) ⟨Nat.le_of_ble_eq_true rfl, Nat.le_of_ble_eq_true rfl⟩) (r_recv hK hw (k := 0) (ci := 8) rfl rfl) [0, 1, 2, 3, 4, 5, 6, 7, 8] rfl rfl rfl hl.1 rfl (Nat.le_of_ble_eq_true rfl) dX9_readsStatement_1 ⟨Nat.le_of_ble_eq_true rfl, Nat.le_of_ble_eq_true rfl⟩) cx hw [0, 1, 2, 3, 4, 5, 6, 7, 8] rfl rfl WM_adr (ws' := WM g a s m im wa L R rf nu hi (nI M) rn (nI k) sd) (rfl) (fun H locs hw => ?_)
  refine W.eq (g2 := F0 m9 4 ls [.int (hrF L M k)]) rfl ?_
  refine lv_istore_n (lv' := [(1, .int (hrF L M k)), (0, .ref (a 0))]) hx hb dX9_readsStatement_4 rfl hl (by decide) rfl (fun ls hl => ?_)
  refine lv_aload_n hx hb dX9_readsStatement_5 rfl (lv_at hl 1 rfl) ?_
  refine lv_dup hx hb dX9_readsStatement_6 rfl ?_
  refine r_get cx hw in_X9 0 (ci := 8) (T := TX9) (N := 13) rfl rfl 10 (by decide) q1179 (fun _ h9 => h9) rfl dX9_readsStatement_7 ?_
  refine lv_iconst (v := 1) hx hb dX9_readsStatement_10 (by decide) ?_
  refine lv_iadd hx hb dX9_readsStatement_11 ?_
  refine r_topi (x' := nI (k + 1)) (nI_add k 1) ?_
  refine r_put cx hw in_X9 tyX9 tyX9_ok nmX9 0 (ci := 8) (T := TX9) (N := 13) rfl rfl 10 (by decide) q1179 (fun _ h9 => h9) rfl (rfl) (rfl) (Nat.le_of_ble_eq_true rfl) dX9_readsStatement_12 (fun H locs hw => ?_)
  have hw : WS g A9 s9.heap (WM g a s m im wa L R rf nu hi (nI M) rn (nI (k + 1)) sd) H locs := hw
  refine lv_iload_n hx hb dX9_readsStatement_15 rfl (lv_at hl 0 rfl) ?_
  by_cases t_16_102 : hrF L M k = 102
  · skip
    refine lv_tableIn (tgt := 138) hx hb dX9_readsStatement_16 (by rw [t_16_102]; decide) (by rw [t_16_102]; decide) (by rw [t_16_102]; rfl) (by decide) ?_
    refine lv_aload_n hx hb dX9_readsStatement_138 rfl (lv_at hl 1 rfl) ?_
    refine lv_iconst (v := 0) hx hb dX9_readsStatement_139 (by decide) ?_
    refine lv_iconst (v := 1) hx hb dX9_readsStatement_140 (by decide) ?_
    refine r_detP (α := Nat → Int32) (C := fun x9 => alB (fun i => dgB L M (k + 1 + i)) 1 = true → x9 = upd nu 0 (dgV L M (k + 1) 1)) (r_V cx hw (kX9_readsNumber l hl9 g a s m im wa L R rf nu hi rn sd M (k + 1) (by omega) (by omega) 0 1 (by omega) (by omega)) (cwV 2 hts (lw_V q1236 q1238 qs69 q94 q1239) rfl rfl rfl (by decide +kernel) ⟨Nat.le_of_ble_eq_true rfl, Nat.le_of_ble_eq_true rfl⟩) (r_recv hK hw (k := 0) (ci := 8) rfl rfl) [0, 1, 2, 3, 4, 5, 6, 7, 8] rfl rfl rfl hl.1 rfl (Nat.le_of_ble_eq_true rfl) dX9_readsStatement_141 ⟨Nat.le_of_ble_eq_true rfl, Nat.le_of_ble_eq_true rfl⟩) cx hw [0, 1, 2, 3, 4, 5, 6, 7, 8] rfl rfl (fun _ => WM_adr) (ws' := fun x9 => WM g a s m im wa L R rf x9 hi (nI M) rn (nI (ldC (dgB L M) 1 (k + 1))) sd) (fun _ => rfl) (fun nn_1 H locs hnn_1 hw => ?_)
    have hnn_1 : alB (fun i => dgB L M (k + 1 + i)) 1 = true → nn_1 = upd nu 0 (dgV L M (k + 1) 1) := hnn_1
    refine W.eq (g2 := F0 m9 144 ls [.int (bI (alB (fun i => dgB L M (k + 1 + i)) 1))]) rfl ?_
    have hw : WS g A9 s9.heap (WM g a s m im wa L R rf nn_1 hi (nI M) rn (nI (ldC (dgB L M) 1 (k + 1))) sd) H locs := hw
    refine r_topi (x' := bI (dgB L M (k + 1))) (by simp only [alB, Bool.true_and, Nat.add_zero, Nat.add_assoc, Nat.reduceAdd]) ?_
    have hw : WS g A9 s9.heap (WM g a s m im wa L R rf nn_1 hi (nI M) rn (nI (if dgB L M (k + 1) = true then k + 2 else k + 1)) sd) H locs := hw
    have hnn_1 : (dgB L M (k + 1)) = true → nn_1 = upd nu 0 (d1 L M (k + 1)) := fun h9 => (hnn_1 (by simp only [alB, Bool.true_and, Nat.add_zero, Nat.add_assoc, Nat.reduceAdd]; exact h9)).trans (by rw [dgV_1])
    refine lv_if_eq (tgt := 160) hx hb dX9_readsStatement_144 (by decide) (fun c_144 => ?_) (fun c_144 => ?_)
    · skip
      have c_144 := bI_e0 c_144
      refine lv_iconst (v := 0) hx hb dX9_readsStatement_160 (by decide) ?_
      refine lv_istore_n (lv' := [(2, .int 0), (1, .int (hrF L M k)), (0, .ref (a 0))]) hx hb dX9_readsStatement_161 rfl hl (by decide) rfl (fun ls hl => ?_)
      refine lv_goto (tgt := 224) hx hb dX9_readsStatement_162 (by decide) ?_
      refine lv_iload_n hx hb dX9_readsStatement_224 rfl (lv_at hl 0 rfl) ?_
      refine lv_if_eq (tgt := 237) hx hb dX9_readsStatement_225 (by decide) (fun c_225 => ?_) (fun c_225 => absurd c_225 (by decide))
      refine lv_iconst (v := 0) hx hb dX9_readsStatement_237 (by decide) ?_
      have hs9 : stB L M k = false := by simp [stB, t_16_102, c_144]
      have hp9 : stP L M k = if dgB L M (k + 1) = true then k + 2 else k + 1 := by simp [stP, en1, t_16_102, c_144]
      exact r_zret (by decide) cx hw (⟨_, fun h9 => absurd h9 (by rw [hs9]; decide), by rw [hs9]; rfl, by rw [hp9]⟩) (Nat.le_of_ble_eq_true rfl) (Nat.le_of_ble_eq_true rfl) dX9_readsStatement_238
    · skip
      have c_144 := bI_n0 c_144
      have hw : WS g A9 s9.heap (WM g a s m im wa L R rf nn_1 hi (nI M) rn (nI (k + 2)) sd) H locs := WS.to hw (by rw [if_pos c_144])
      refine lv_aload_n hx hb dX9_readsStatement_147 rfl (lv_at hl 1 rfl) ?_
      refine lv_iconst (v := 1) hx hb dX9_readsStatement_148 (by decide) ?_
      refine lv_iconst (v := 1) hx hb dX9_readsStatement_149 (by decide) ?_
      refine r_detP (α := Nat → Int32) (C := fun x9 => alB (fun i => dgB L M (k + 2 + i)) 1 = true → x9 = upd nn_1 1 (dgV L M (k + 2) 1)) (r_V cx hw (kX9_readsNumber l hl9 g a s m im wa L R rf nn_1 hi rn sd M (k + 2) (by omega) (by omega) 1 1 (by omega) (by omega)) (cwV 2 hts (lw_V q1236 q1238 qs69 q94 q1239) rfl rfl rfl (by decide +kernel) ⟨Nat.le_of_ble_eq_true rfl, Nat.le_of_ble_eq_true rfl⟩) (r_recv hK hw (k := 0) (ci := 8) rfl rfl) [0, 1, 2, 3, 4, 5, 6, 7, 8] rfl rfl rfl hl.1 rfl (Nat.le_of_ble_eq_true rfl) dX9_readsStatement_150 ⟨Nat.le_of_ble_eq_true rfl, Nat.le_of_ble_eq_true rfl⟩) cx hw [0, 1, 2, 3, 4, 5, 6, 7, 8] rfl rfl (fun _ => WM_adr) (ws' := fun x9 => WM g a s m im wa L R rf x9 hi (nI M) rn (nI (ldC (dgB L M) 1 (k + 2))) sd) (fun _ => rfl) (fun nn_4 H locs hnn_4 hw => ?_)
      have hnn_4 : alB (fun i => dgB L M (k + 2 + i)) 1 = true → nn_4 = upd nn_1 1 (dgV L M (k + 2) 1) := hnn_4
      refine W.eq (g2 := F0 m9 153 ls [.int (bI (alB (fun i => dgB L M (k + 2 + i)) 1))]) rfl ?_
      have hw : WS g A9 s9.heap (WM g a s m im wa L R rf nn_4 hi (nI M) rn (nI (ldC (dgB L M) 1 (k + 2))) sd) H locs := hw
      refine r_topi (x' := bI (dgB L M (k + 2))) (by simp only [alB, Bool.true_and, Nat.add_zero, Nat.add_assoc, Nat.reduceAdd]) ?_
      have hw : WS g A9 s9.heap (WM g a s m im wa L R rf nn_4 hi (nI M) rn (nI (if dgB L M (k + 2) = true then k + 3 else k + 2)) sd) H locs := hw
      have hnn_4 : (dgB L M (k + 2)) = true → nn_4 = upd nn_1 1 (d1 L M (k + 2)) := fun h9 => (hnn_4 (by simp only [alB, Bool.true_and, Nat.add_zero, Nat.add_assoc, Nat.reduceAdd]; exact h9)).trans (by rw [dgV_1])
      refine lv_if_eq (tgt := 160) hx hb dX9_readsStatement_153 (by decide) (fun c_153 => ?_) (fun c_153 => ?_)
      · skip
        have c_153 := bI_e0 c_153
        refine lv_iconst (v := 0) hx hb dX9_readsStatement_160 (by decide) ?_
        refine lv_istore_n (lv' := [(2, .int 0), (1, .int (hrF L M k)), (0, .ref (a 0))]) hx hb dX9_readsStatement_161 rfl hl (by decide) rfl (fun ls hl => ?_)
        refine lv_goto (tgt := 224) hx hb dX9_readsStatement_162 (by decide) ?_
        refine lv_iload_n hx hb dX9_readsStatement_224 rfl (lv_at hl 0 rfl) ?_
        refine lv_if_eq (tgt := 237) hx hb dX9_readsStatement_225 (by decide) (fun c_225 => ?_) (fun c_225 => absurd c_225 (by decide))
        refine lv_iconst (v := 0) hx hb dX9_readsStatement_237 (by decide) ?_
        have hs9 : stB L M k = false := by simp [stB, t_16_102, c_144, c_153]
        have hp9 : stP L M k = if dgB L M (k + 2) = true then k + 3 else k + 2 := by simp [stP, en1, t_16_102, c_144, c_153]
        exact r_zret (by decide) cx hw (⟨_, fun h9 => absurd h9 (by rw [hs9]; decide), by rw [hs9]; rfl, by rw [hp9]⟩) (Nat.le_of_ble_eq_true rfl) (Nat.le_of_ble_eq_true rfl) dX9_readsStatement_238
      · skip
        have c_153 := bI_n0 c_153
        have hw : WS g A9 s9.heap (WM g a s m im wa L R rf nn_4 hi (nI M) rn (nI (k + 3)) sd) H locs := WS.to hw (by rw [if_pos c_153])
        refine lv_iconst (v := 1) hx hb dX9_readsStatement_156 (by decide) ?_
        refine lv_goto (tgt := 161) hx hb dX9_readsStatement_157 (by decide) ?_
        refine lv_istore_n (lv' := [(2, .int 1), (1, .int (hrF L M k)), (0, .ref (a 0))]) hx hb dX9_readsStatement_161 rfl hl (by decide) rfl (fun ls hl => ?_)
        refine lv_goto (tgt := 224) hx hb dX9_readsStatement_162 (by decide) ?_
        refine lv_iload_n hx hb dX9_readsStatement_224 rfl (lv_at hl 0 rfl) ?_
        refine lv_if_eq (tgt := 237) hx hb dX9_readsStatement_225 (by decide) (fun c_225 => absurd c_225 (by decide)) (fun c_225 => ?_)
        refine lv_aload_n hx hb dX9_readsStatement_228 rfl (lv_at hl 2 rfl) ?_
        refine r_det (r_V cx hw (kX9_here l hl9 g a s m im wa L R rf nn_4 hi rn sd M (k + 3) (by omega) (by omega) ) (cwV 0 hts (lw_V q1225 q1227 qs67 q94 q1228) rfl rfl rfl (by decide +kernel) ⟨Nat.le_of_ble_eq_true rfl, Nat.le_of_ble_eq_true rfl⟩) (r_recv hK hw (k := 0) (ci := 8) rfl rfl) [0, 1, 2, 3, 4, 5, 6, 7, 8] rfl rfl rfl hl.1 rfl (Nat.le_of_ble_eq_true rfl) dX9_readsStatement_229 ⟨Nat.le_of_ble_eq_true rfl, Nat.le_of_ble_eq_true rfl⟩) cx hw [0, 1, 2, 3, 4, 5, 6, 7, 8] rfl rfl WM_adr (ws' := WM g a s m im wa L R rf nn_4 hi (nI M) rn (nI (k + 3)) sd) (rfl) (fun H locs hw => ?_)
        refine W.eq (g2 := F0 m9 232 ls [.int (hrF L M (k + 3))]) rfl ?_
        refine lv_bipush (v := 59) hx hb dX9_readsStatement_232 (by decide) ?_
        refine lv_icmp_eq (tgt := 239) hx hb dX9_readsStatement_234 (by decide) (fun c_234 => ?_) (fun c_234 => ?_)
        · skip
          have hse : seB L M (k + 3) = true := decide_eq_true c_234
          refine lv_aload_n hx hb dX9_readsStatement_239 rfl (lv_at hl 2 rfl) ?_
          refine lv_dup hx hb dX9_readsStatement_240 rfl ?_
          refine r_get cx hw in_X9 0 (ci := 8) (T := TX9) (N := 13) rfl rfl 10 (by decide) q1179 (fun _ h9 => h9) rfl dX9_readsStatement_241 ?_
          refine lv_iconst (v := 1) hx hb dX9_readsStatement_244 (by decide) ?_
          refine lv_iadd hx hb dX9_readsStatement_245 ?_
          refine r_topi (x' := nI (k + 3 + 1)) (nI_add (k + 3) 1) ?_
          refine r_put cx hw in_X9 tyX9 tyX9_ok nmX9 0 (ci := 8) (T := TX9) (N := 13) rfl rfl 10 (by decide) q1179 (fun _ h9 => h9) rfl (rfl) (rfl) (Nat.le_of_ble_eq_true rfl) dX9_readsStatement_246 (fun H locs hw => ?_)
          have hw : WS g A9 s9.heap (WM g a s m im wa L R rf nn_4 hi (nI M) rn (nI (k + 3 + 1)) sd) H locs := hw
          refine lv_iconst (v := 1) hx hb dX9_readsStatement_249 (by decide) ?_
          have hs9 : stB L M k = true := by simp [stB, t_16_102, c_144, c_153, hse]
          have hp9 : stP L M k = k + 3 + 1 := by simp [stP, en1, t_16_102, c_144, c_153, hse]
          exact r_zret (by decide) cx hw (⟨nn_4, fun _ => by rw [hnn_4 c_153, hnn_1 c_144]; simp [nuOK, n0F, n1F, n2F, upd, t_16_102], by rw [hs9]; rfl, by rw [hp9]⟩) (Nat.le_of_ble_eq_true rfl) (Nat.le_of_ble_eq_true rfl) dX9_readsStatement_250
        · skip
          have hse : seB L M (k + 3) = false := decide_eq_false c_234
          refine lv_iconst (v := 0) hx hb dX9_readsStatement_237 (by decide) ?_
          have hs9 : stB L M k = false := by simp [stB, t_16_102, c_144, c_153, hse]
          have hp9 : stP L M k = k + 3 := by simp [stP, en1, t_16_102, c_144, c_153, hse]
          exact r_zret (by decide) cx hw (⟨_, fun h9 => absurd h9 (by rw [hs9]; decide), by rw [hs9]; rfl, by rw [hp9]⟩) (Nat.le_of_ble_eq_true rfl) (Nat.le_of_ble_eq_true rfl) dX9_readsStatement_238
  by_cases t_16_103 : hrF L M k = 103
  · skip
    refine lv_tableIn (tgt := 165) hx hb dX9_readsStatement_16 (by rw [t_16_103]; decide) (by rw [t_16_103]; decide) (by rw [t_16_103]; rfl) (by decide) ?_
    refine lv_aload_n hx hb dX9_readsStatement_165 rfl (lv_at hl 1 rfl) ?_
    refine lv_iconst (v := 0) hx hb dX9_readsStatement_166 (by decide) ?_
    refine lv_iconst (v := 1) hx hb dX9_readsStatement_167 (by decide) ?_
    refine r_detP (α := Nat → Int32) (C := fun x9 => alB (fun i => dgB L M (k + 1 + i)) 1 = true → x9 = upd nu 0 (dgV L M (k + 1) 1)) (r_V cx hw (kX9_readsNumber l hl9 g a s m im wa L R rf nu hi rn sd M (k + 1) (by omega) (by omega) 0 1 (by omega) (by omega)) (cwV 2 hts (lw_V q1236 q1238 qs69 q94 q1239) rfl rfl rfl (by decide +kernel) ⟨Nat.le_of_ble_eq_true rfl, Nat.le_of_ble_eq_true rfl⟩) (r_recv hK hw (k := 0) (ci := 8) rfl rfl) [0, 1, 2, 3, 4, 5, 6, 7, 8] rfl rfl rfl hl.1 rfl (Nat.le_of_ble_eq_true rfl) dX9_readsStatement_168 ⟨Nat.le_of_ble_eq_true rfl, Nat.le_of_ble_eq_true rfl⟩) cx hw [0, 1, 2, 3, 4, 5, 6, 7, 8] rfl rfl (fun _ => WM_adr) (ws' := fun x9 => WM g a s m im wa L R rf x9 hi (nI M) rn (nI (ldC (dgB L M) 1 (k + 1))) sd) (fun _ => rfl) (fun nn_9 H locs hnn_9 hw => ?_)
    have hnn_9 : alB (fun i => dgB L M (k + 1 + i)) 1 = true → nn_9 = upd nu 0 (dgV L M (k + 1) 1) := hnn_9
    refine W.eq (g2 := F0 m9 171 ls [.int (bI (alB (fun i => dgB L M (k + 1 + i)) 1))]) rfl ?_
    have hw : WS g A9 s9.heap (WM g a s m im wa L R rf nn_9 hi (nI M) rn (nI (ldC (dgB L M) 1 (k + 1))) sd) H locs := hw
    refine r_topi (x' := bI (dgB L M (k + 1))) (by simp only [alB, Bool.true_and, Nat.add_zero, Nat.add_assoc, Nat.reduceAdd]) ?_
    have hw : WS g A9 s9.heap (WM g a s m im wa L R rf nn_9 hi (nI M) rn (nI (if dgB L M (k + 1) = true then k + 2 else k + 1)) sd) H locs := hw
    have hnn_9 : (dgB L M (k + 1)) = true → nn_9 = upd nu 0 (d1 L M (k + 1)) := fun h9 => (hnn_9 (by simp only [alB, Bool.true_and, Nat.add_zero, Nat.add_assoc, Nat.reduceAdd]; exact h9)).trans (by rw [dgV_1])
    refine lv_if_eq (tgt := 187) hx hb dX9_readsStatement_171 (by decide) (fun c_171 => ?_) (fun c_171 => ?_)
    · skip
      have c_171 := bI_e0 c_171
      refine lv_iconst (v := 0) hx hb dX9_readsStatement_187 (by decide) ?_
      refine lv_istore_n (lv' := [(2, .int 0), (1, .int (hrF L M k)), (0, .ref (a 0))]) hx hb dX9_readsStatement_188 rfl hl (by decide) rfl (fun ls hl => ?_)
      refine lv_goto (tgt := 224) hx hb dX9_readsStatement_189 (by decide) ?_
      refine lv_iload_n hx hb dX9_readsStatement_224 rfl (lv_at hl 0 rfl) ?_
      refine lv_if_eq (tgt := 237) hx hb dX9_readsStatement_225 (by decide) (fun c_225 => ?_) (fun c_225 => absurd c_225 (by decide))
      refine lv_iconst (v := 0) hx hb dX9_readsStatement_237 (by decide) ?_
      have hs9 : stB L M k = false := by simp [stB, t_16_103, t_16_102, c_171]
      have hp9 : stP L M k = if dgB L M (k + 1) = true then k + 2 else k + 1 := by simp [stP, en1, t_16_103, t_16_102, c_171]
      exact r_zret (by decide) cx hw (⟨_, fun h9 => absurd h9 (by rw [hs9]; decide), by rw [hs9]; rfl, by rw [hp9]⟩) (Nat.le_of_ble_eq_true rfl) (Nat.le_of_ble_eq_true rfl) dX9_readsStatement_238
    · skip
      have c_171 := bI_n0 c_171
      have hw : WS g A9 s9.heap (WM g a s m im wa L R rf nn_9 hi (nI M) rn (nI (k + 2)) sd) H locs := WS.to hw (by rw [if_pos c_171])
      refine lv_aload_n hx hb dX9_readsStatement_174 rfl (lv_at hl 1 rfl) ?_
      refine lv_iconst (v := 1) hx hb dX9_readsStatement_175 (by decide) ?_
      refine lv_iconst (v := 2) hx hb dX9_readsStatement_176 (by decide) ?_
      refine r_detP (α := Nat → Int32) (C := fun x9 => alB (fun i => dgB L M (k + 2 + i)) 2 = true → x9 = upd nn_9 1 (dgV L M (k + 2) 2)) (r_V cx hw (kX9_readsNumber l hl9 g a s m im wa L R rf nn_9 hi rn sd M (k + 2) (by omega) (by omega) 1 2 (by omega) (by omega)) (cwV 2 hts (lw_V q1236 q1238 qs69 q94 q1239) rfl rfl rfl (by decide +kernel) ⟨Nat.le_of_ble_eq_true rfl, Nat.le_of_ble_eq_true rfl⟩) (r_recv hK hw (k := 0) (ci := 8) rfl rfl) [0, 1, 2, 3, 4, 5, 6, 7, 8] rfl rfl rfl hl.1 rfl (Nat.le_of_ble_eq_true rfl) dX9_readsStatement_177 ⟨Nat.le_of_ble_eq_true rfl, Nat.le_of_ble_eq_true rfl⟩) cx hw [0, 1, 2, 3, 4, 5, 6, 7, 8] rfl rfl (fun _ => WM_adr) (ws' := fun x9 => WM g a s m im wa L R rf x9 hi (nI M) rn (nI (ldC (dgB L M) 2 (k + 2))) sd) (fun _ => rfl) (fun nn_12 H locs hnn_12 hw => ?_)
      have hnn_12 : alB (fun i => dgB L M (k + 2 + i)) 2 = true → nn_12 = upd nn_9 1 (dgV L M (k + 2) 2) := hnn_12
      refine W.eq (g2 := F0 m9 180 ls [.int (bI (alB (fun i => dgB L M (k + 2 + i)) 2))]) rfl ?_
      have hw : WS g A9 s9.heap (WM g a s m im wa L R rf nn_12 hi (nI M) rn (nI (ldC (dgB L M) 2 (k + 2))) sd) H locs := hw
      refine r_topi (x' := bI (dgB L M (k + 2) && dgB L M (k + 3))) (by simp only [alB, Bool.true_and, Nat.add_zero, Nat.add_assoc, Nat.reduceAdd]) ?_
      have hw : WS g A9 s9.heap (WM g a s m im wa L R rf nn_12 hi (nI M) rn (nI (if dgB L M (k + 2) = true then if dgB L M (k + 3) = true then k + 4 else k + 3 else k + 2)) sd) H locs := hw
      have hnn_12 : (dgB L M (k + 2) && dgB L M (k + 3)) = true → nn_12 = upd nn_9 1 (d2 L M (k + 2)) := fun h9 => (hnn_12 (by simp only [alB, Bool.true_and, Nat.add_zero, Nat.add_assoc, Nat.reduceAdd]; exact h9)).trans (by rw [dgV_2])
      refine lv_if_eq (tgt := 187) hx hb dX9_readsStatement_180 (by decide) (fun c_180 => ?_) (fun c_180 => ?_)
      · skip
        have c_180 := bI_e0 c_180
        refine lv_iconst (v := 0) hx hb dX9_readsStatement_187 (by decide) ?_
        refine lv_istore_n (lv' := [(2, .int 0), (1, .int (hrF L M k)), (0, .ref (a 0))]) hx hb dX9_readsStatement_188 rfl hl (by decide) rfl (fun ls hl => ?_)
        refine lv_goto (tgt := 224) hx hb dX9_readsStatement_189 (by decide) ?_
        refine lv_iload_n hx hb dX9_readsStatement_224 rfl (lv_at hl 0 rfl) ?_
        refine lv_if_eq (tgt := 237) hx hb dX9_readsStatement_225 (by decide) (fun c_225 => ?_) (fun c_225 => absurd c_225 (by decide))
        refine lv_iconst (v := 0) hx hb dX9_readsStatement_237 (by decide) ?_
        have hs9 : stB L M k = false := by cases hd1 : dgB L M (k + 2) <;> cases hd2 : dgB L M (k + 3) <;> simp_all [stB]
        have hp9 : stP L M k = if dgB L M (k + 2) = true then if dgB L M (k + 3) = true then k + 4 else k + 3 else k + 2 := by cases hd1 : dgB L M (k + 2) <;> cases hd2 : dgB L M (k + 3) <;> simp_all [stP, en1]
        exact r_zret (by decide) cx hw (⟨_, fun h9 => absurd h9 (by rw [hs9]; decide), by rw [hs9]; rfl, by rw [hp9]⟩) (Nat.le_of_ble_eq_true rfl) (Nat.le_of_ble_eq_true rfl) dX9_readsStatement_238
      · skip
        have c_180 := bI_n0 c_180
        have h180 : dgB L M (k + 2) = true ∧ dgB L M (k + 3) = true := by simpa using c_180
        have hw : WS g A9 s9.heap (WM g a s m im wa L R rf nn_12 hi (nI M) rn (nI (k + 4)) sd) H locs := WS.to hw (by rw [if_pos h180.1, if_pos h180.2])
        refine lv_iconst (v := 1) hx hb dX9_readsStatement_183 (by decide) ?_
        refine lv_goto (tgt := 188) hx hb dX9_readsStatement_184 (by decide) ?_
        refine lv_istore_n (lv' := [(2, .int 1), (1, .int (hrF L M k)), (0, .ref (a 0))]) hx hb dX9_readsStatement_188 rfl hl (by decide) rfl (fun ls hl => ?_)
        refine lv_goto (tgt := 224) hx hb dX9_readsStatement_189 (by decide) ?_
        refine lv_iload_n hx hb dX9_readsStatement_224 rfl (lv_at hl 0 rfl) ?_
        refine lv_if_eq (tgt := 237) hx hb dX9_readsStatement_225 (by decide) (fun c_225 => absurd c_225 (by decide)) (fun c_225 => ?_)
        refine lv_aload_n hx hb dX9_readsStatement_228 rfl (lv_at hl 2 rfl) ?_
        refine r_det (r_V cx hw (kX9_here l hl9 g a s m im wa L R rf nn_12 hi rn sd M (k + 4) (by omega) (by omega) ) (cwV 0 hts (lw_V q1225 q1227 qs67 q94 q1228) rfl rfl rfl (by decide +kernel) ⟨Nat.le_of_ble_eq_true rfl, Nat.le_of_ble_eq_true rfl⟩) (r_recv hK hw (k := 0) (ci := 8) rfl rfl) [0, 1, 2, 3, 4, 5, 6, 7, 8] rfl rfl rfl hl.1 rfl (Nat.le_of_ble_eq_true rfl) dX9_readsStatement_229 ⟨Nat.le_of_ble_eq_true rfl, Nat.le_of_ble_eq_true rfl⟩) cx hw [0, 1, 2, 3, 4, 5, 6, 7, 8] rfl rfl WM_adr (ws' := WM g a s m im wa L R rf nn_12 hi (nI M) rn (nI (k + 4)) sd) (rfl) (fun H locs hw => ?_)
        refine W.eq (g2 := F0 m9 232 ls [.int (hrF L M (k + 4))]) rfl ?_
        refine lv_bipush (v := 59) hx hb dX9_readsStatement_232 (by decide) ?_
        refine lv_icmp_eq (tgt := 239) hx hb dX9_readsStatement_234 (by decide) (fun c_234 => ?_) (fun c_234 => ?_)
        · skip
          have hse : seB L M (k + 4) = true := decide_eq_true c_234
          refine lv_aload_n hx hb dX9_readsStatement_239 rfl (lv_at hl 2 rfl) ?_
          refine lv_dup hx hb dX9_readsStatement_240 rfl ?_
          refine r_get cx hw in_X9 0 (ci := 8) (T := TX9) (N := 13) rfl rfl 10 (by decide) q1179 (fun _ h9 => h9) rfl dX9_readsStatement_241 ?_
          refine lv_iconst (v := 1) hx hb dX9_readsStatement_244 (by decide) ?_
          refine lv_iadd hx hb dX9_readsStatement_245 ?_
          refine r_topi (x' := nI (k + 4 + 1)) (nI_add (k + 4) 1) ?_
          refine r_put cx hw in_X9 tyX9 tyX9_ok nmX9 0 (ci := 8) (T := TX9) (N := 13) rfl rfl 10 (by decide) q1179 (fun _ h9 => h9) rfl (rfl) (rfl) (Nat.le_of_ble_eq_true rfl) dX9_readsStatement_246 (fun H locs hw => ?_)
          have hw : WS g A9 s9.heap (WM g a s m im wa L R rf nn_12 hi (nI M) rn (nI (k + 4 + 1)) sd) H locs := hw
          refine lv_iconst (v := 1) hx hb dX9_readsStatement_249 (by decide) ?_
          have hs9 : stB L M k = true := by simp [stB, t_16_103, t_16_102, c_171, h180.1, h180.2, hse]
          have hp9 : stP L M k = k + 4 + 1 := by simp [stP, en1, t_16_103, t_16_102, c_171, h180.1, h180.2, hse]
          exact r_zret (by decide) cx hw (⟨nn_12, fun _ => by rw [hnn_12 c_180, hnn_9 c_171]; simp [nuOK, n0F, n1F, n2F, upd, t_16_103, t_16_102], by rw [hs9]; rfl, by rw [hp9]⟩) (Nat.le_of_ble_eq_true rfl) (Nat.le_of_ble_eq_true rfl) dX9_readsStatement_250
        · skip
          have hse : seB L M (k + 4) = false := decide_eq_false c_234
          refine lv_iconst (v := 0) hx hb dX9_readsStatement_237 (by decide) ?_
          have hs9 : stB L M k = false := by simp [stB, t_16_103, t_16_102, c_171, h180.1, h180.2, hse]
          have hp9 : stP L M k = k + 4 := by simp [stP, en1, t_16_103, t_16_102, c_171, h180.1, h180.2, hse]
          exact r_zret (by decide) cx hw (⟨_, fun h9 => absurd h9 (by rw [hs9]; decide), by rw [hs9]; rfl, by rw [hp9]⟩) (Nat.le_of_ble_eq_true rfl) (Nat.le_of_ble_eq_true rfl) dX9_readsStatement_238
  by_cases t_16_104 : hrF L M k = 104
  · skip
    refine lv_tableIn (tgt := 192) hx hb dX9_readsStatement_16 (by rw [t_16_104]; decide) (by rw [t_16_104]; decide) (by rw [t_16_104]; rfl) (by decide) ?_
    refine lv_aload_n hx hb dX9_readsStatement_192 rfl (lv_at hl 1 rfl) ?_
    refine lv_iconst (v := 0) hx hb dX9_readsStatement_193 (by decide) ?_
    refine lv_iconst (v := 2) hx hb dX9_readsStatement_194 (by decide) ?_
    refine r_detP (α := Nat → Int32) (C := fun x9 => alB (fun i => dgB L M (k + 1 + i)) 2 = true → x9 = upd nu 0 (dgV L M (k + 1) 2)) (r_V cx hw (kX9_readsNumber l hl9 g a s m im wa L R rf nu hi rn sd M (k + 1) (by omega) (by omega) 0 2 (by omega) (by omega)) (cwV 2 hts (lw_V q1236 q1238 qs69 q94 q1239) rfl rfl rfl (by decide +kernel) ⟨Nat.le_of_ble_eq_true rfl, Nat.le_of_ble_eq_true rfl⟩) (r_recv hK hw (k := 0) (ci := 8) rfl rfl) [0, 1, 2, 3, 4, 5, 6, 7, 8] rfl rfl rfl hl.1 rfl (Nat.le_of_ble_eq_true rfl) dX9_readsStatement_195 ⟨Nat.le_of_ble_eq_true rfl, Nat.le_of_ble_eq_true rfl⟩) cx hw [0, 1, 2, 3, 4, 5, 6, 7, 8] rfl rfl (fun _ => WM_adr) (ws' := fun x9 => WM g a s m im wa L R rf x9 hi (nI M) rn (nI (ldC (dgB L M) 2 (k + 1))) sd) (fun _ => rfl) (fun nn_17 H locs hnn_17 hw => ?_)
    have hnn_17 : alB (fun i => dgB L M (k + 1 + i)) 2 = true → nn_17 = upd nu 0 (dgV L M (k + 1) 2) := hnn_17
    refine W.eq (g2 := F0 m9 198 ls [.int (bI (alB (fun i => dgB L M (k + 1 + i)) 2))]) rfl ?_
    have hw : WS g A9 s9.heap (WM g a s m im wa L R rf nn_17 hi (nI M) rn (nI (ldC (dgB L M) 2 (k + 1))) sd) H locs := hw
    refine r_topi (x' := bI (dgB L M (k + 1) && dgB L M (k + 2))) (by simp only [alB, Bool.true_and, Nat.add_zero, Nat.add_assoc, Nat.reduceAdd]) ?_
    have hw : WS g A9 s9.heap (WM g a s m im wa L R rf nn_17 hi (nI M) rn (nI (if dgB L M (k + 1) = true then if dgB L M (k + 2) = true then k + 3 else k + 2 else k + 1)) sd) H locs := hw
    have hnn_17 : (dgB L M (k + 1) && dgB L M (k + 2)) = true → nn_17 = upd nu 0 (d2 L M (k + 1)) := fun h9 => (hnn_17 (by simp only [alB, Bool.true_and, Nat.add_zero, Nat.add_assoc, Nat.reduceAdd]; exact h9)).trans (by rw [dgV_2])
    refine lv_istore_n (lv' := [(2, .int (bI (dgB L M (k + 1) && dgB L M (k + 2)))), (1, .int (hrF L M k)), (0, .ref (a 0))]) hx hb dX9_readsStatement_198 rfl hl (by decide) rfl (fun ls hl => ?_)
    refine lv_goto (tgt := 224) hx hb dX9_readsStatement_199 (by decide) ?_
    refine lv_iload_n hx hb dX9_readsStatement_224 rfl (lv_at hl 0 rfl) ?_
    refine lv_if_eq (tgt := 237) hx hb dX9_readsStatement_225 (by decide) (fun c_225 => ?_) (fun c_225 => ?_)
    · skip
      have c_225 := bI_e0 c_225
      refine lv_iconst (v := 0) hx hb dX9_readsStatement_237 (by decide) ?_
      have hs9 : stB L M k = false := by cases hd1 : dgB L M (k + 1) <;> cases hd2 : dgB L M (k + 2) <;> simp_all [stB]
      have hp9 : stP L M k = if dgB L M (k + 1) = true then if dgB L M (k + 2) = true then k + 3 else k + 2 else k + 1 := by cases hd1 : dgB L M (k + 1) <;> cases hd2 : dgB L M (k + 2) <;> simp_all [stP, en1]
      exact r_zret (by decide) cx hw (⟨_, fun h9 => absurd h9 (by rw [hs9]; decide), by rw [hs9]; rfl, by rw [hp9]⟩) (Nat.le_of_ble_eq_true rfl) (Nat.le_of_ble_eq_true rfl) dX9_readsStatement_238
    · skip
      have c_225 := bI_n0 c_225
      have h225 : dgB L M (k + 1) = true ∧ dgB L M (k + 2) = true := by simpa using c_225
      have hw : WS g A9 s9.heap (WM g a s m im wa L R rf nn_17 hi (nI M) rn (nI (k + 3)) sd) H locs := WS.to hw (by rw [if_pos h225.1, if_pos h225.2])
      refine lv_aload_n hx hb dX9_readsStatement_228 rfl (lv_at hl 2 rfl) ?_
      refine r_det (r_V cx hw (kX9_here l hl9 g a s m im wa L R rf nn_17 hi rn sd M (k + 3) (by omega) (by omega) ) (cwV 0 hts (lw_V q1225 q1227 qs67 q94 q1228) rfl rfl rfl (by decide +kernel) ⟨Nat.le_of_ble_eq_true rfl, Nat.le_of_ble_eq_true rfl⟩) (r_recv hK hw (k := 0) (ci := 8) rfl rfl) [0, 1, 2, 3, 4, 5, 6, 7, 8] rfl rfl rfl hl.1 rfl (Nat.le_of_ble_eq_true rfl) dX9_readsStatement_229 ⟨Nat.le_of_ble_eq_true rfl, Nat.le_of_ble_eq_true rfl⟩) cx hw [0, 1, 2, 3, 4, 5, 6, 7, 8] rfl rfl WM_adr (ws' := WM g a s m im wa L R rf nn_17 hi (nI M) rn (nI (k + 3)) sd) (rfl) (fun H locs hw => ?_)
      refine W.eq (g2 := F0 m9 232 ls [.int (hrF L M (k + 3))]) rfl ?_
      refine lv_bipush (v := 59) hx hb dX9_readsStatement_232 (by decide) ?_
      refine lv_icmp_eq (tgt := 239) hx hb dX9_readsStatement_234 (by decide) (fun c_234 => ?_) (fun c_234 => ?_)
      · skip
        have hse : seB L M (k + 3) = true := decide_eq_true c_234
        refine lv_aload_n hx hb dX9_readsStatement_239 rfl (lv_at hl 2 rfl) ?_
        refine lv_dup hx hb dX9_readsStatement_240 rfl ?_
        refine r_get cx hw in_X9 0 (ci := 8) (T := TX9) (N := 13) rfl rfl 10 (by decide) q1179 (fun _ h9 => h9) rfl dX9_readsStatement_241 ?_
        refine lv_iconst (v := 1) hx hb dX9_readsStatement_244 (by decide) ?_
        refine lv_iadd hx hb dX9_readsStatement_245 ?_
        refine r_topi (x' := nI (k + 3 + 1)) (nI_add (k + 3) 1) ?_
        refine r_put cx hw in_X9 tyX9 tyX9_ok nmX9 0 (ci := 8) (T := TX9) (N := 13) rfl rfl 10 (by decide) q1179 (fun _ h9 => h9) rfl (rfl) (rfl) (Nat.le_of_ble_eq_true rfl) dX9_readsStatement_246 (fun H locs hw => ?_)
        have hw : WS g A9 s9.heap (WM g a s m im wa L R rf nn_17 hi (nI M) rn (nI (k + 3 + 1)) sd) H locs := hw
        refine lv_iconst (v := 1) hx hb dX9_readsStatement_249 (by decide) ?_
        have hs9 : stB L M k = true := by simp [stB, t_16_104, t_16_102, t_16_103, h225.1, h225.2, hse]
        have hp9 : stP L M k = k + 3 + 1 := by simp [stP, en1, t_16_104, t_16_102, t_16_103, h225.1, h225.2, hse]
        exact r_zret (by decide) cx hw (⟨nn_17, fun _ => by rw [hnn_17 c_225]; simp [nuOK, n0F, n1F, n2F, upd, t_16_104, t_16_102, t_16_103], by rw [hs9]; rfl, by rw [hp9]⟩) (Nat.le_of_ble_eq_true rfl) (Nat.le_of_ble_eq_true rfl) dX9_readsStatement_250
      · skip
        have hse : seB L M (k + 3) = false := decide_eq_false c_234
        refine lv_iconst (v := 0) hx hb dX9_readsStatement_237 (by decide) ?_
        have hs9 : stB L M k = false := by simp [stB, t_16_104, t_16_102, t_16_103, h225.1, h225.2, hse]
        have hp9 : stP L M k = k + 3 := by simp [stP, en1, t_16_104, t_16_102, t_16_103, h225.1, h225.2, hse]
        exact r_zret (by decide) cx hw (⟨_, fun h9 => absurd h9 (by rw [hs9]; decide), by rw [hs9]; rfl, by rw [hp9]⟩) (Nat.le_of_ble_eq_true rfl) (Nat.le_of_ble_eq_true rfl) dX9_readsStatement_238
  by_cases t_16_105 : hrF L M k = 105
  · skip
    refine lv_tableIn (tgt := 212) hx hb dX9_readsStatement_16 (by rw [t_16_105]; decide) (by rw [t_16_105]; decide) (by rw [t_16_105]; rfl) (by decide) ?_
    refine lv_aload_n hx hb dX9_readsStatement_212 rfl (lv_at hl 1 rfl) ?_
    refine lv_dup hx hb dX9_readsStatement_213 rfl ?_
    refine r_get cx hw in_X9 0 (ci := 8) (T := TX9) (N := 13) rfl rfl 10 (by decide) q1179 (fun _ h9 => h9) rfl dX9_readsStatement_214 ?_
    refine lv_iconst (v := 1) hx hb dX9_readsStatement_217 (by decide) ?_
    refine lv_isub hx hb dX9_readsStatement_218 ?_
    refine r_topi (x' := nI k) (by rw [show (1 : Int32) = nI 1 from rfl, pk_sub (by omega), Nat.add_sub_cancel]) ?_
    refine r_put cx hw in_X9 tyX9 tyX9_ok nmX9 0 (ci := 8) (T := TX9) (N := 13) rfl rfl 10 (by decide) q1179 (fun _ h9 => h9) rfl (rfl) (rfl) (Nat.le_of_ble_eq_true rfl) dX9_readsStatement_219 (fun H locs hw => ?_)
    have hw : WS g A9 s9.heap (WM g a s m im wa L R rf nu hi (nI M) rn (nI k) sd) H locs := hw
    refine lv_iconst (v := 0) hx hb dX9_readsStatement_222 (by decide) ?_
    have hs9 : stB L M k = false := by simp [stB, t_16_105, t_16_102, t_16_103, t_16_104]
    have hp9 : stP L M k = k := by simp [stP, en1, t_16_105, t_16_102, t_16_103, t_16_104]
    exact r_zret (by decide) cx hw (⟨_, fun h9 => absurd h9 (by rw [hs9]; decide), by rw [hs9]; rfl, by rw [hp9]⟩) (Nat.le_of_ble_eq_true rfl) (Nat.le_of_ble_eq_true rfl) dX9_readsStatement_223
  by_cases t_16_106 : hrF L M k = 106
  · skip
    refine lv_tableIn (tgt := 212) hx hb dX9_readsStatement_16 (by rw [t_16_106]; decide) (by rw [t_16_106]; decide) (by rw [t_16_106]; rfl) (by decide) ?_
    refine lv_aload_n hx hb dX9_readsStatement_212 rfl (lv_at hl 1 rfl) ?_
    refine lv_dup hx hb dX9_readsStatement_213 rfl ?_
    refine r_get cx hw in_X9 0 (ci := 8) (T := TX9) (N := 13) rfl rfl 10 (by decide) q1179 (fun _ h9 => h9) rfl dX9_readsStatement_214 ?_
    refine lv_iconst (v := 1) hx hb dX9_readsStatement_217 (by decide) ?_
    refine lv_isub hx hb dX9_readsStatement_218 ?_
    refine r_topi (x' := nI k) (by rw [show (1 : Int32) = nI 1 from rfl, pk_sub (by omega), Nat.add_sub_cancel]) ?_
    refine r_put cx hw in_X9 tyX9 tyX9_ok nmX9 0 (ci := 8) (T := TX9) (N := 13) rfl rfl 10 (by decide) q1179 (fun _ h9 => h9) rfl (rfl) (rfl) (Nat.le_of_ble_eq_true rfl) dX9_readsStatement_219 (fun H locs hw => ?_)
    have hw : WS g A9 s9.heap (WM g a s m im wa L R rf nu hi (nI M) rn (nI k) sd) H locs := hw
    refine lv_iconst (v := 0) hx hb dX9_readsStatement_222 (by decide) ?_
    have hs9 : stB L M k = false := by simp [stB, t_16_106, t_16_102, t_16_103, t_16_104, t_16_105]
    have hp9 : stP L M k = k := by simp [stP, en1, t_16_106, t_16_102, t_16_103, t_16_104, t_16_105]
    exact r_zret (by decide) cx hw (⟨_, fun h9 => absurd h9 (by rw [hs9]; decide), by rw [hs9]; rfl, by rw [hp9]⟩) (Nat.le_of_ble_eq_true rfl) (Nat.le_of_ble_eq_true rfl) dX9_readsStatement_223
  by_cases t_16_107 : hrF L M k = 107
  · skip
    refine lv_tableIn (tgt := 212) hx hb dX9_readsStatement_16 (by rw [t_16_107]; decide) (by rw [t_16_107]; decide) (by rw [t_16_107]; rfl) (by decide) ?_
    refine lv_aload_n hx hb dX9_readsStatement_212 rfl (lv_at hl 1 rfl) ?_
    refine lv_dup hx hb dX9_readsStatement_213 rfl ?_
    refine r_get cx hw in_X9 0 (ci := 8) (T := TX9) (N := 13) rfl rfl 10 (by decide) q1179 (fun _ h9 => h9) rfl dX9_readsStatement_214 ?_
    refine lv_iconst (v := 1) hx hb dX9_readsStatement_217 (by decide) ?_
    refine lv_isub hx hb dX9_readsStatement_218 ?_
    refine r_topi (x' := nI k) (by rw [show (1 : Int32) = nI 1 from rfl, pk_sub (by omega), Nat.add_sub_cancel]) ?_
    refine r_put cx hw in_X9 tyX9 tyX9_ok nmX9 0 (ci := 8) (T := TX9) (N := 13) rfl rfl 10 (by decide) q1179 (fun _ h9 => h9) rfl (rfl) (rfl) (Nat.le_of_ble_eq_true rfl) dX9_readsStatement_219 (fun H locs hw => ?_)
    have hw : WS g A9 s9.heap (WM g a s m im wa L R rf nu hi (nI M) rn (nI k) sd) H locs := hw
    refine lv_iconst (v := 0) hx hb dX9_readsStatement_222 (by decide) ?_
    have hs9 : stB L M k = false := by simp [stB, t_16_107, t_16_102, t_16_103, t_16_104, t_16_105, t_16_106]
    have hp9 : stP L M k = k := by simp [stP, en1, t_16_107, t_16_102, t_16_103, t_16_104, t_16_105, t_16_106]
    exact r_zret (by decide) cx hw (⟨_, fun h9 => absurd h9 (by rw [hs9]; decide), by rw [hs9]; rfl, by rw [hp9]⟩) (Nat.le_of_ble_eq_true rfl) (Nat.le_of_ble_eq_true rfl) dX9_readsStatement_223
  by_cases t_16_108 : hrF L M k = 108
  · skip
    refine lv_tableIn (tgt := 192) hx hb dX9_readsStatement_16 (by rw [t_16_108]; decide) (by rw [t_16_108]; decide) (by rw [t_16_108]; rfl) (by decide) ?_
    refine lv_aload_n hx hb dX9_readsStatement_192 rfl (lv_at hl 1 rfl) ?_
    refine lv_iconst (v := 0) hx hb dX9_readsStatement_193 (by decide) ?_
    refine lv_iconst (v := 2) hx hb dX9_readsStatement_194 (by decide) ?_
    refine r_detP (α := Nat → Int32) (C := fun x9 => alB (fun i => dgB L M (k + 1 + i)) 2 = true → x9 = upd nu 0 (dgV L M (k + 1) 2)) (r_V cx hw (kX9_readsNumber l hl9 g a s m im wa L R rf nu hi rn sd M (k + 1) (by omega) (by omega) 0 2 (by omega) (by omega)) (cwV 2 hts (lw_V q1236 q1238 qs69 q94 q1239) rfl rfl rfl (by decide +kernel) ⟨Nat.le_of_ble_eq_true rfl, Nat.le_of_ble_eq_true rfl⟩) (r_recv hK hw (k := 0) (ci := 8) rfl rfl) [0, 1, 2, 3, 4, 5, 6, 7, 8] rfl rfl rfl hl.1 rfl (Nat.le_of_ble_eq_true rfl) dX9_readsStatement_195 ⟨Nat.le_of_ble_eq_true rfl, Nat.le_of_ble_eq_true rfl⟩) cx hw [0, 1, 2, 3, 4, 5, 6, 7, 8] rfl rfl (fun _ => WM_adr) (ws' := fun x9 => WM g a s m im wa L R rf x9 hi (nI M) rn (nI (ldC (dgB L M) 2 (k + 1))) sd) (fun _ => rfl) (fun nn_20 H locs hnn_20 hw => ?_)
    have hnn_20 : alB (fun i => dgB L M (k + 1 + i)) 2 = true → nn_20 = upd nu 0 (dgV L M (k + 1) 2) := hnn_20
    refine W.eq (g2 := F0 m9 198 ls [.int (bI (alB (fun i => dgB L M (k + 1 + i)) 2))]) rfl ?_
    have hw : WS g A9 s9.heap (WM g a s m im wa L R rf nn_20 hi (nI M) rn (nI (ldC (dgB L M) 2 (k + 1))) sd) H locs := hw
    refine r_topi (x' := bI (dgB L M (k + 1) && dgB L M (k + 2))) (by simp only [alB, Bool.true_and, Nat.add_zero, Nat.add_assoc, Nat.reduceAdd]) ?_
    have hw : WS g A9 s9.heap (WM g a s m im wa L R rf nn_20 hi (nI M) rn (nI (if dgB L M (k + 1) = true then if dgB L M (k + 2) = true then k + 3 else k + 2 else k + 1)) sd) H locs := hw
    have hnn_20 : (dgB L M (k + 1) && dgB L M (k + 2)) = true → nn_20 = upd nu 0 (d2 L M (k + 1)) := fun h9 => (hnn_20 (by simp only [alB, Bool.true_and, Nat.add_zero, Nat.add_assoc, Nat.reduceAdd]; exact h9)).trans (by rw [dgV_2])
    refine lv_istore_n (lv' := [(2, .int (bI (dgB L M (k + 1) && dgB L M (k + 2)))), (1, .int (hrF L M k)), (0, .ref (a 0))]) hx hb dX9_readsStatement_198 rfl hl (by decide) rfl (fun ls hl => ?_)
    refine lv_goto (tgt := 224) hx hb dX9_readsStatement_199 (by decide) ?_
    refine lv_iload_n hx hb dX9_readsStatement_224 rfl (lv_at hl 0 rfl) ?_
    refine lv_if_eq (tgt := 237) hx hb dX9_readsStatement_225 (by decide) (fun c_225 => ?_) (fun c_225 => ?_)
    · skip
      have c_225 := bI_e0 c_225
      refine lv_iconst (v := 0) hx hb dX9_readsStatement_237 (by decide) ?_
      have hs9 : stB L M k = false := by cases hd1 : dgB L M (k + 1) <;> cases hd2 : dgB L M (k + 2) <;> simp_all [stB]
      have hp9 : stP L M k = if dgB L M (k + 1) = true then if dgB L M (k + 2) = true then k + 3 else k + 2 else k + 1 := by cases hd1 : dgB L M (k + 1) <;> cases hd2 : dgB L M (k + 2) <;> simp_all [stP, en1]
      exact r_zret (by decide) cx hw (⟨_, fun h9 => absurd h9 (by rw [hs9]; decide), by rw [hs9]; rfl, by rw [hp9]⟩) (Nat.le_of_ble_eq_true rfl) (Nat.le_of_ble_eq_true rfl) dX9_readsStatement_238
    · skip
      have c_225 := bI_n0 c_225
      have h225 : dgB L M (k + 1) = true ∧ dgB L M (k + 2) = true := by simpa using c_225
      have hw : WS g A9 s9.heap (WM g a s m im wa L R rf nn_20 hi (nI M) rn (nI (k + 3)) sd) H locs := WS.to hw (by rw [if_pos h225.1, if_pos h225.2])
      refine lv_aload_n hx hb dX9_readsStatement_228 rfl (lv_at hl 2 rfl) ?_
      refine r_det (r_V cx hw (kX9_here l hl9 g a s m im wa L R rf nn_20 hi rn sd M (k + 3) (by omega) (by omega) ) (cwV 0 hts (lw_V q1225 q1227 qs67 q94 q1228) rfl rfl rfl (by decide +kernel) ⟨Nat.le_of_ble_eq_true rfl, Nat.le_of_ble_eq_true rfl⟩) (r_recv hK hw (k := 0) (ci := 8) rfl rfl) [0, 1, 2, 3, 4, 5, 6, 7, 8] rfl rfl rfl hl.1 rfl (Nat.le_of_ble_eq_true rfl) dX9_readsStatement_229 ⟨Nat.le_of_ble_eq_true rfl, Nat.le_of_ble_eq_true rfl⟩) cx hw [0, 1, 2, 3, 4, 5, 6, 7, 8] rfl rfl WM_adr (ws' := WM g a s m im wa L R rf nn_20 hi (nI M) rn (nI (k + 3)) sd) (rfl) (fun H locs hw => ?_)
      refine W.eq (g2 := F0 m9 232 ls [.int (hrF L M (k + 3))]) rfl ?_
      refine lv_bipush (v := 59) hx hb dX9_readsStatement_232 (by decide) ?_
      refine lv_icmp_eq (tgt := 239) hx hb dX9_readsStatement_234 (by decide) (fun c_234 => ?_) (fun c_234 => ?_)
      · skip
        have hse : seB L M (k + 3) = true := decide_eq_true c_234
        refine lv_aload_n hx hb dX9_readsStatement_239 rfl (lv_at hl 2 rfl) ?_
        refine lv_dup hx hb dX9_readsStatement_240 rfl ?_
        refine r_get cx hw in_X9 0 (ci := 8) (T := TX9) (N := 13) rfl rfl 10 (by decide) q1179 (fun _ h9 => h9) rfl dX9_readsStatement_241 ?_
        refine lv_iconst (v := 1) hx hb dX9_readsStatement_244 (by decide) ?_
        refine lv_iadd hx hb dX9_readsStatement_245 ?_
        refine r_topi (x' := nI (k + 3 + 1)) (nI_add (k + 3) 1) ?_
        refine r_put cx hw in_X9 tyX9 tyX9_ok nmX9 0 (ci := 8) (T := TX9) (N := 13) rfl rfl 10 (by decide) q1179 (fun _ h9 => h9) rfl (rfl) (rfl) (Nat.le_of_ble_eq_true rfl) dX9_readsStatement_246 (fun H locs hw => ?_)
        have hw : WS g A9 s9.heap (WM g a s m im wa L R rf nn_20 hi (nI M) rn (nI (k + 3 + 1)) sd) H locs := hw
        refine lv_iconst (v := 1) hx hb dX9_readsStatement_249 (by decide) ?_
        have hs9 : stB L M k = true := by simp [stB, t_16_108, t_16_102, t_16_103, t_16_104, t_16_105, t_16_106, t_16_107, h225.1, h225.2, hse]
        have hp9 : stP L M k = k + 3 + 1 := by simp [stP, en1, t_16_108, t_16_102, t_16_103, t_16_104, t_16_105, t_16_106, t_16_107, h225.1, h225.2, hse]
        exact r_zret (by decide) cx hw (⟨nn_20, fun _ => by rw [hnn_20 c_225]; simp [nuOK, n0F, n1F, n2F, upd, t_16_108, t_16_102, t_16_103, t_16_104, t_16_105, t_16_106, t_16_107], by rw [hs9]; rfl, by rw [hp9]⟩) (Nat.le_of_ble_eq_true rfl) (Nat.le_of_ble_eq_true rfl) dX9_readsStatement_250
      · skip
        have hse : seB L M (k + 3) = false := decide_eq_false c_234
        refine lv_iconst (v := 0) hx hb dX9_readsStatement_237 (by decide) ?_
        have hs9 : stB L M k = false := by simp [stB, t_16_108, t_16_102, t_16_103, t_16_104, t_16_105, t_16_106, t_16_107, h225.1, h225.2, hse]
        have hp9 : stP L M k = k + 3 := by simp [stP, en1, t_16_108, t_16_102, t_16_103, t_16_104, t_16_105, t_16_106, t_16_107, h225.1, h225.2, hse]
        exact r_zret (by decide) cx hw (⟨_, fun h9 => absurd h9 (by rw [hs9]; decide), by rw [hs9]; rfl, by rw [hp9]⟩) (Nat.le_of_ble_eq_true rfl) (Nat.le_of_ble_eq_true rfl) dX9_readsStatement_238
  by_cases t_16_109 : hrF L M k = 109
  · skip
    refine lv_tableIn (tgt := 212) hx hb dX9_readsStatement_16 (by rw [t_16_109]; decide) (by rw [t_16_109]; decide) (by rw [t_16_109]; rfl) (by decide) ?_
    refine lv_aload_n hx hb dX9_readsStatement_212 rfl (lv_at hl 1 rfl) ?_
    refine lv_dup hx hb dX9_readsStatement_213 rfl ?_
    refine r_get cx hw in_X9 0 (ci := 8) (T := TX9) (N := 13) rfl rfl 10 (by decide) q1179 (fun _ h9 => h9) rfl dX9_readsStatement_214 ?_
    refine lv_iconst (v := 1) hx hb dX9_readsStatement_217 (by decide) ?_
    refine lv_isub hx hb dX9_readsStatement_218 ?_
    refine r_topi (x' := nI k) (by rw [show (1 : Int32) = nI 1 from rfl, pk_sub (by omega), Nat.add_sub_cancel]) ?_
    refine r_put cx hw in_X9 tyX9 tyX9_ok nmX9 0 (ci := 8) (T := TX9) (N := 13) rfl rfl 10 (by decide) q1179 (fun _ h9 => h9) rfl (rfl) (rfl) (Nat.le_of_ble_eq_true rfl) dX9_readsStatement_219 (fun H locs hw => ?_)
    have hw : WS g A9 s9.heap (WM g a s m im wa L R rf nu hi (nI M) rn (nI k) sd) H locs := hw
    refine lv_iconst (v := 0) hx hb dX9_readsStatement_222 (by decide) ?_
    have hs9 : stB L M k = false := by simp [stB, t_16_109, t_16_102, t_16_103, t_16_104, t_16_105, t_16_106, t_16_107, t_16_108]
    have hp9 : stP L M k = k := by simp [stP, en1, t_16_109, t_16_102, t_16_103, t_16_104, t_16_105, t_16_106, t_16_107, t_16_108]
    exact r_zret (by decide) cx hw (⟨_, fun h9 => absurd h9 (by rw [hs9]; decide), by rw [hs9]; rfl, by rw [hp9]⟩) (Nat.le_of_ble_eq_true rfl) (Nat.le_of_ble_eq_true rfl) dX9_readsStatement_223
  by_cases t_16_110 : hrF L M k = 110
  · skip
    refine lv_tableIn (tgt := 212) hx hb dX9_readsStatement_16 (by rw [t_16_110]; decide) (by rw [t_16_110]; decide) (by rw [t_16_110]; rfl) (by decide) ?_
    refine lv_aload_n hx hb dX9_readsStatement_212 rfl (lv_at hl 1 rfl) ?_
    refine lv_dup hx hb dX9_readsStatement_213 rfl ?_
    refine r_get cx hw in_X9 0 (ci := 8) (T := TX9) (N := 13) rfl rfl 10 (by decide) q1179 (fun _ h9 => h9) rfl dX9_readsStatement_214 ?_
    refine lv_iconst (v := 1) hx hb dX9_readsStatement_217 (by decide) ?_
    refine lv_isub hx hb dX9_readsStatement_218 ?_
    refine r_topi (x' := nI k) (by rw [show (1 : Int32) = nI 1 from rfl, pk_sub (by omega), Nat.add_sub_cancel]) ?_
    refine r_put cx hw in_X9 tyX9 tyX9_ok nmX9 0 (ci := 8) (T := TX9) (N := 13) rfl rfl 10 (by decide) q1179 (fun _ h9 => h9) rfl (rfl) (rfl) (Nat.le_of_ble_eq_true rfl) dX9_readsStatement_219 (fun H locs hw => ?_)
    have hw : WS g A9 s9.heap (WM g a s m im wa L R rf nu hi (nI M) rn (nI k) sd) H locs := hw
    refine lv_iconst (v := 0) hx hb dX9_readsStatement_222 (by decide) ?_
    have hs9 : stB L M k = false := by simp [stB, t_16_110, t_16_102, t_16_103, t_16_104, t_16_105, t_16_106, t_16_107, t_16_108, t_16_109]
    have hp9 : stP L M k = k := by simp [stP, en1, t_16_110, t_16_102, t_16_103, t_16_104, t_16_105, t_16_106, t_16_107, t_16_108, t_16_109]
    exact r_zret (by decide) cx hw (⟨_, fun h9 => absurd h9 (by rw [hs9]; decide), by rw [hs9]; rfl, by rw [hp9]⟩) (Nat.le_of_ble_eq_true rfl) (Nat.le_of_ble_eq_true rfl) dX9_readsStatement_223
  by_cases t_16_111 : hrF L M k = 111
  · skip
    refine lv_tableIn (tgt := 212) hx hb dX9_readsStatement_16 (by rw [t_16_111]; decide) (by rw [t_16_111]; decide) (by rw [t_16_111]; rfl) (by decide) ?_
    refine lv_aload_n hx hb dX9_readsStatement_212 rfl (lv_at hl 1 rfl) ?_
    refine lv_dup hx hb dX9_readsStatement_213 rfl ?_
    refine r_get cx hw in_X9 0 (ci := 8) (T := TX9) (N := 13) rfl rfl 10 (by decide) q1179 (fun _ h9 => h9) rfl dX9_readsStatement_214 ?_
    refine lv_iconst (v := 1) hx hb dX9_readsStatement_217 (by decide) ?_
    refine lv_isub hx hb dX9_readsStatement_218 ?_
    refine r_topi (x' := nI k) (by rw [show (1 : Int32) = nI 1 from rfl, pk_sub (by omega), Nat.add_sub_cancel]) ?_
    refine r_put cx hw in_X9 tyX9 tyX9_ok nmX9 0 (ci := 8) (T := TX9) (N := 13) rfl rfl 10 (by decide) q1179 (fun _ h9 => h9) rfl (rfl) (rfl) (Nat.le_of_ble_eq_true rfl) dX9_readsStatement_219 (fun H locs hw => ?_)
    have hw : WS g A9 s9.heap (WM g a s m im wa L R rf nu hi (nI M) rn (nI k) sd) H locs := hw
    refine lv_iconst (v := 0) hx hb dX9_readsStatement_222 (by decide) ?_
    have hs9 : stB L M k = false := by simp [stB, t_16_111, t_16_102, t_16_103, t_16_104, t_16_105, t_16_106, t_16_107, t_16_108, t_16_109, t_16_110]
    have hp9 : stP L M k = k := by simp [stP, en1, t_16_111, t_16_102, t_16_103, t_16_104, t_16_105, t_16_106, t_16_107, t_16_108, t_16_109, t_16_110]
    exact r_zret (by decide) cx hw (⟨_, fun h9 => absurd h9 (by rw [hs9]; decide), by rw [hs9]; rfl, by rw [hp9]⟩) (Nat.le_of_ble_eq_true rfl) (Nat.le_of_ble_eq_true rfl) dX9_readsStatement_223
  by_cases t_16_112 : hrF L M k = 112
  · skip
    refine lv_tableIn (tgt := 104) hx hb dX9_readsStatement_16 (by rw [t_16_112]; decide) (by rw [t_16_112]; decide) (by rw [t_16_112]; rfl) (by decide) ?_
    refine lv_aload_n hx hb dX9_readsStatement_104 rfl (lv_at hl 1 rfl) ?_
    refine r_det (r_V cx hw (kX9_readsKind l hl9 g a s m im wa L R rf nu hi rn sd M (k + 1) (by omega) (by omega) ) (cwV 0 hts (lw_V q1229 q1231 qs68 q94 q1232) rfl rfl rfl (by decide +kernel) ⟨Nat.le_of_ble_eq_true rfl, Nat.le_of_ble_eq_true rfl⟩) (r_recv hK hw (k := 0) (ci := 8) rfl rfl) [0, 1, 2, 3, 4, 5, 6, 7, 8] rfl rfl rfl hl.1 rfl (Nat.le_of_ble_eq_true rfl) dX9_readsStatement_105 ⟨Nat.le_of_ble_eq_true rfl, Nat.le_of_ble_eq_true rfl⟩) cx hw [0, 1, 2, 3, 4, 5, 6, 7, 8] rfl rfl WM_adr (ws' := WM g a s m im wa L R rf (upd nu 0 (kdF (hrF L M (k + 1)))) hi (nI M) rn (nI (if 0 ≤ kdF (hrF L M (k + 1)) then k + 1 + 1 else k + 1)) sd) (rfl) (fun H locs hw => ?_)
    refine W.eq (g2 := F0 m9 108 ls [.int (bI (decide (0 ≤ kdF (hrF L M (k + 1)))))]) rfl ?_
    have hw : WS g A9 s9.heap (WM g a s m im wa L R rf (upd nu 0 (kdF (hrF L M (k + 1)))) hi (nI M) rn (nI (if 0 ≤ kdF (hrF L M (k + 1)) then k + 2 else k + 1)) sd) H locs := hw
    refine lv_if_eq (tgt := 133) hx hb dX9_readsStatement_108 (by decide) (fun c_108 => ?_) (fun c_108 => ?_)
    · skip
      have c_108 := bI_e0 c_108
      refine lv_iconst (v := 0) hx hb dX9_readsStatement_133 (by decide) ?_
      refine lv_istore_n (lv' := [(2, .int 0), (1, .int (hrF L M k)), (0, .ref (a 0))]) hx hb dX9_readsStatement_134 rfl hl (by decide) rfl (fun ls hl => ?_)
      refine lv_goto (tgt := 224) hx hb dX9_readsStatement_135 (by decide) ?_
      refine lv_iload_n hx hb dX9_readsStatement_224 rfl (lv_at hl 0 rfl) ?_
      refine lv_if_eq (tgt := 237) hx hb dX9_readsStatement_225 (by decide) (fun c_225 => ?_) (fun c_225 => absurd c_225 (by decide))
      refine lv_iconst (v := 0) hx hb dX9_readsStatement_237 (by decide) ?_
      have hs9 : stB L M k = false := by simp [stB, t_16_112, t_16_102, t_16_103, t_16_104, t_16_105, t_16_106, t_16_107, t_16_108, t_16_109, t_16_110, t_16_111, of_decide_eq_false c_108]
      have hp9 : stP L M k = if 0 ≤ kdF (hrF L M (k + 1)) then k + 2 else k + 1 := by simp [stP, en1, t_16_112, t_16_102, t_16_103, t_16_104, t_16_105, t_16_106, t_16_107, t_16_108, t_16_109, t_16_110, t_16_111, of_decide_eq_false c_108]
      exact r_zret (by decide) cx hw (⟨_, fun h9 => absurd h9 (by rw [hs9]; decide), by rw [hs9]; rfl, by rw [hp9]⟩) (Nat.le_of_ble_eq_true rfl) (Nat.le_of_ble_eq_true rfl) dX9_readsStatement_238
    · skip
      have c_108 := bI_n0 c_108
      have hw : WS g A9 s9.heap (WM g a s m im wa L R rf (upd nu 0 (kdF (hrF L M (k + 1)))) hi (nI M) rn (nI (k + 2)) sd) H locs := WS.to hw (by rw [if_pos (of_decide_eq_true c_108)])
      refine lv_aload_n hx hb dX9_readsStatement_111 rfl (lv_at hl 1 rfl) ?_
      refine lv_iconst (v := 1) hx hb dX9_readsStatement_112 (by decide) ?_
      refine lv_iconst (v := 1) hx hb dX9_readsStatement_113 (by decide) ?_
      refine r_detP (α := Nat → Int32) (C := fun x9 => alB (fun i => dgB L M (k + 2 + i)) 1 = true → x9 = upd (upd nu 0 (kdF (hrF L M (k + 1)))) 1 (dgV L M (k + 2) 1)) (r_V cx hw (kX9_readsNumber l hl9 g a s m im wa L R rf (upd nu 0 (kdF (hrF L M (k + 1)))) hi rn sd M (k + 2) (by omega) (by omega) 1 1 (by omega) (by omega)) (cwV 2 hts (lw_V q1236 q1238 qs69 q94 q1239) rfl rfl rfl (by decide +kernel) ⟨Nat.le_of_ble_eq_true rfl, Nat.le_of_ble_eq_true rfl⟩) (r_recv hK hw (k := 0) (ci := 8) rfl rfl) [0, 1, 2, 3, 4, 5, 6, 7, 8] rfl rfl rfl hl.1 rfl (Nat.le_of_ble_eq_true rfl) dX9_readsStatement_114 ⟨Nat.le_of_ble_eq_true rfl, Nat.le_of_ble_eq_true rfl⟩) cx hw [0, 1, 2, 3, 4, 5, 6, 7, 8] rfl rfl (fun _ => WM_adr) (ws' := fun x9 => WM g a s m im wa L R rf x9 hi (nI M) rn (nI (ldC (dgB L M) 1 (k + 2))) sd) (fun _ => rfl) (fun nn_25 H locs hnn_25 hw => ?_)
      have hnn_25 : alB (fun i => dgB L M (k + 2 + i)) 1 = true → nn_25 = upd (upd nu 0 (kdF (hrF L M (k + 1)))) 1 (dgV L M (k + 2) 1) := hnn_25
      refine W.eq (g2 := F0 m9 117 ls [.int (bI (alB (fun i => dgB L M (k + 2 + i)) 1))]) rfl ?_
      have hw : WS g A9 s9.heap (WM g a s m im wa L R rf nn_25 hi (nI M) rn (nI (ldC (dgB L M) 1 (k + 2))) sd) H locs := hw
      refine r_topi (x' := bI (dgB L M (k + 2))) (by simp only [alB, Bool.true_and, Nat.add_zero, Nat.add_assoc, Nat.reduceAdd]) ?_
      have hw : WS g A9 s9.heap (WM g a s m im wa L R rf nn_25 hi (nI M) rn (nI (if dgB L M (k + 2) = true then k + 3 else k + 2)) sd) H locs := hw
      have hnn_25 : (dgB L M (k + 2)) = true → nn_25 = upd (upd nu 0 (kdF (hrF L M (k + 1)))) 1 (d1 L M (k + 2)) := fun h9 => (hnn_25 (by simp only [alB, Bool.true_and, Nat.add_zero, Nat.add_assoc, Nat.reduceAdd]; exact h9)).trans (by rw [dgV_1])
      refine lv_if_eq (tgt := 133) hx hb dX9_readsStatement_117 (by decide) (fun c_117 => ?_) (fun c_117 => ?_)
      · skip
        have c_117 := bI_e0 c_117
        refine lv_iconst (v := 0) hx hb dX9_readsStatement_133 (by decide) ?_
        refine lv_istore_n (lv' := [(2, .int 0), (1, .int (hrF L M k)), (0, .ref (a 0))]) hx hb dX9_readsStatement_134 rfl hl (by decide) rfl (fun ls hl => ?_)
        refine lv_goto (tgt := 224) hx hb dX9_readsStatement_135 (by decide) ?_
        refine lv_iload_n hx hb dX9_readsStatement_224 rfl (lv_at hl 0 rfl) ?_
        refine lv_if_eq (tgt := 237) hx hb dX9_readsStatement_225 (by decide) (fun c_225 => ?_) (fun c_225 => absurd c_225 (by decide))
        refine lv_iconst (v := 0) hx hb dX9_readsStatement_237 (by decide) ?_
        have hs9 : stB L M k = false := by simp [stB, t_16_112, t_16_102, t_16_103, t_16_104, t_16_105, t_16_106, t_16_107, t_16_108, t_16_109, t_16_110, t_16_111, of_decide_eq_true c_108, c_117]
        have hp9 : stP L M k = if dgB L M (k + 2) = true then k + 3 else k + 2 := by simp [stP, en1, t_16_112, t_16_102, t_16_103, t_16_104, t_16_105, t_16_106, t_16_107, t_16_108, t_16_109, t_16_110, t_16_111, of_decide_eq_true c_108, c_117]
        exact r_zret (by decide) cx hw (⟨_, fun h9 => absurd h9 (by rw [hs9]; decide), by rw [hs9]; rfl, by rw [hp9]⟩) (Nat.le_of_ble_eq_true rfl) (Nat.le_of_ble_eq_true rfl) dX9_readsStatement_238
      · skip
        have c_117 := bI_n0 c_117
        have hw : WS g A9 s9.heap (WM g a s m im wa L R rf nn_25 hi (nI M) rn (nI (k + 3)) sd) H locs := WS.to hw (by rw [if_pos c_117])
        refine lv_aload_n hx hb dX9_readsStatement_120 rfl (lv_at hl 1 rfl) ?_
        refine lv_iconst (v := 2) hx hb dX9_readsStatement_121 (by decide) ?_
        refine lv_iconst (v := 1) hx hb dX9_readsStatement_122 (by decide) ?_
        refine r_detP (α := Nat → Int32) (C := fun x9 => alB (fun i => dgB L M (k + 3 + i)) 1 = true → x9 = upd nn_25 2 (dgV L M (k + 3) 1)) (r_V cx hw (kX9_readsNumber l hl9 g a s m im wa L R rf nn_25 hi rn sd M (k + 3) (by omega) (by omega) 2 1 (by omega) (by omega)) (cwV 2 hts (lw_V q1236 q1238 qs69 q94 q1239) rfl rfl rfl (by decide +kernel) ⟨Nat.le_of_ble_eq_true rfl, Nat.le_of_ble_eq_true rfl⟩) (r_recv hK hw (k := 0) (ci := 8) rfl rfl) [0, 1, 2, 3, 4, 5, 6, 7, 8] rfl rfl rfl hl.1 rfl (Nat.le_of_ble_eq_true rfl) dX9_readsStatement_123 ⟨Nat.le_of_ble_eq_true rfl, Nat.le_of_ble_eq_true rfl⟩) cx hw [0, 1, 2, 3, 4, 5, 6, 7, 8] rfl rfl (fun _ => WM_adr) (ws' := fun x9 => WM g a s m im wa L R rf x9 hi (nI M) rn (nI (ldC (dgB L M) 1 (k + 3))) sd) (fun _ => rfl) (fun nn_28 H locs hnn_28 hw => ?_)
        have hnn_28 : alB (fun i => dgB L M (k + 3 + i)) 1 = true → nn_28 = upd nn_25 2 (dgV L M (k + 3) 1) := hnn_28
        refine W.eq (g2 := F0 m9 126 ls [.int (bI (alB (fun i => dgB L M (k + 3 + i)) 1))]) rfl ?_
        have hw : WS g A9 s9.heap (WM g a s m im wa L R rf nn_28 hi (nI M) rn (nI (ldC (dgB L M) 1 (k + 3))) sd) H locs := hw
        refine r_topi (x' := bI (dgB L M (k + 3))) (by simp only [alB, Bool.true_and, Nat.add_zero, Nat.add_assoc, Nat.reduceAdd]) ?_
        have hw : WS g A9 s9.heap (WM g a s m im wa L R rf nn_28 hi (nI M) rn (nI (if dgB L M (k + 3) = true then k + 4 else k + 3)) sd) H locs := hw
        have hnn_28 : (dgB L M (k + 3)) = true → nn_28 = upd nn_25 2 (d1 L M (k + 3)) := fun h9 => (hnn_28 (by simp only [alB, Bool.true_and, Nat.add_zero, Nat.add_assoc, Nat.reduceAdd]; exact h9)).trans (by rw [dgV_1])
        refine lv_if_eq (tgt := 133) hx hb dX9_readsStatement_126 (by decide) (fun c_126 => ?_) (fun c_126 => ?_)
        · skip
          have c_126 := bI_e0 c_126
          refine lv_iconst (v := 0) hx hb dX9_readsStatement_133 (by decide) ?_
          refine lv_istore_n (lv' := [(2, .int 0), (1, .int (hrF L M k)), (0, .ref (a 0))]) hx hb dX9_readsStatement_134 rfl hl (by decide) rfl (fun ls hl => ?_)
          refine lv_goto (tgt := 224) hx hb dX9_readsStatement_135 (by decide) ?_
          refine lv_iload_n hx hb dX9_readsStatement_224 rfl (lv_at hl 0 rfl) ?_
          refine lv_if_eq (tgt := 237) hx hb dX9_readsStatement_225 (by decide) (fun c_225 => ?_) (fun c_225 => absurd c_225 (by decide))
          refine lv_iconst (v := 0) hx hb dX9_readsStatement_237 (by decide) ?_
          have hs9 : stB L M k = false := by simp [stB, t_16_112, t_16_102, t_16_103, t_16_104, t_16_105, t_16_106, t_16_107, t_16_108, t_16_109, t_16_110, t_16_111, of_decide_eq_true c_108, c_117, c_126]
          have hp9 : stP L M k = if dgB L M (k + 3) = true then k + 4 else k + 3 := by simp [stP, en1, t_16_112, t_16_102, t_16_103, t_16_104, t_16_105, t_16_106, t_16_107, t_16_108, t_16_109, t_16_110, t_16_111, of_decide_eq_true c_108, c_117, c_126]
          exact r_zret (by decide) cx hw (⟨_, fun h9 => absurd h9 (by rw [hs9]; decide), by rw [hs9]; rfl, by rw [hp9]⟩) (Nat.le_of_ble_eq_true rfl) (Nat.le_of_ble_eq_true rfl) dX9_readsStatement_238
        · skip
          have c_126 := bI_n0 c_126
          have hw : WS g A9 s9.heap (WM g a s m im wa L R rf nn_28 hi (nI M) rn (nI (k + 4)) sd) H locs := WS.to hw (by rw [if_pos c_126])
          refine lv_iconst (v := 1) hx hb dX9_readsStatement_129 (by decide) ?_
          refine lv_goto (tgt := 134) hx hb dX9_readsStatement_130 (by decide) ?_
          refine lv_istore_n (lv' := [(2, .int 1), (1, .int (hrF L M k)), (0, .ref (a 0))]) hx hb dX9_readsStatement_134 rfl hl (by decide) rfl (fun ls hl => ?_)
          refine lv_goto (tgt := 224) hx hb dX9_readsStatement_135 (by decide) ?_
          refine lv_iload_n hx hb dX9_readsStatement_224 rfl (lv_at hl 0 rfl) ?_
          refine lv_if_eq (tgt := 237) hx hb dX9_readsStatement_225 (by decide) (fun c_225 => absurd c_225 (by decide)) (fun c_225 => ?_)
          refine lv_aload_n hx hb dX9_readsStatement_228 rfl (lv_at hl 2 rfl) ?_
          refine r_det (r_V cx hw (kX9_here l hl9 g a s m im wa L R rf nn_28 hi rn sd M (k + 4) (by omega) (by omega) ) (cwV 0 hts (lw_V q1225 q1227 qs67 q94 q1228) rfl rfl rfl (by decide +kernel) ⟨Nat.le_of_ble_eq_true rfl, Nat.le_of_ble_eq_true rfl⟩) (r_recv hK hw (k := 0) (ci := 8) rfl rfl) [0, 1, 2, 3, 4, 5, 6, 7, 8] rfl rfl rfl hl.1 rfl (Nat.le_of_ble_eq_true rfl) dX9_readsStatement_229 ⟨Nat.le_of_ble_eq_true rfl, Nat.le_of_ble_eq_true rfl⟩) cx hw [0, 1, 2, 3, 4, 5, 6, 7, 8] rfl rfl WM_adr (ws' := WM g a s m im wa L R rf nn_28 hi (nI M) rn (nI (k + 4)) sd) (rfl) (fun H locs hw => ?_)
          refine W.eq (g2 := F0 m9 232 ls [.int (hrF L M (k + 4))]) rfl ?_
          refine lv_bipush (v := 59) hx hb dX9_readsStatement_232 (by decide) ?_
          refine lv_icmp_eq (tgt := 239) hx hb dX9_readsStatement_234 (by decide) (fun c_234 => ?_) (fun c_234 => ?_)
          · skip
            have hse : seB L M (k + 4) = true := decide_eq_true c_234
            refine lv_aload_n hx hb dX9_readsStatement_239 rfl (lv_at hl 2 rfl) ?_
            refine lv_dup hx hb dX9_readsStatement_240 rfl ?_
            refine r_get cx hw in_X9 0 (ci := 8) (T := TX9) (N := 13) rfl rfl 10 (by decide) q1179 (fun _ h9 => h9) rfl dX9_readsStatement_241 ?_
            refine lv_iconst (v := 1) hx hb dX9_readsStatement_244 (by decide) ?_
            refine lv_iadd hx hb dX9_readsStatement_245 ?_
            refine r_topi (x' := nI (k + 4 + 1)) (nI_add (k + 4) 1) ?_
            refine r_put cx hw in_X9 tyX9 tyX9_ok nmX9 0 (ci := 8) (T := TX9) (N := 13) rfl rfl 10 (by decide) q1179 (fun _ h9 => h9) rfl (rfl) (rfl) (Nat.le_of_ble_eq_true rfl) dX9_readsStatement_246 (fun H locs hw => ?_)
            have hw : WS g A9 s9.heap (WM g a s m im wa L R rf nn_28 hi (nI M) rn (nI (k + 4 + 1)) sd) H locs := hw
            refine lv_iconst (v := 1) hx hb dX9_readsStatement_249 (by decide) ?_
            have hs9 : stB L M k = true := by simp [stB, t_16_112, t_16_102, t_16_103, t_16_104, t_16_105, t_16_106, t_16_107, t_16_108, t_16_109, t_16_110, t_16_111, of_decide_eq_true c_108, c_117, c_126, hse]
            have hp9 : stP L M k = k + 4 + 1 := by simp [stP, en1, t_16_112, t_16_102, t_16_103, t_16_104, t_16_105, t_16_106, t_16_107, t_16_108, t_16_109, t_16_110, t_16_111, of_decide_eq_true c_108, c_117, c_126, hse]
            exact r_zret (by decide) cx hw (⟨nn_28, fun _ => by rw [hnn_28 c_126, hnn_25 c_117]; simp [nuOK, n0F, n1F, n2F, upd, t_16_112, t_16_102, t_16_103, t_16_104, t_16_105, t_16_106, t_16_107, t_16_108, t_16_109, t_16_110, t_16_111], by rw [hs9]; rfl, by rw [hp9]⟩) (Nat.le_of_ble_eq_true rfl) (Nat.le_of_ble_eq_true rfl) dX9_readsStatement_250
          · skip
            have hse : seB L M (k + 4) = false := decide_eq_false c_234
            refine lv_iconst (v := 0) hx hb dX9_readsStatement_237 (by decide) ?_
            have hs9 : stB L M k = false := by simp [stB, t_16_112, t_16_102, t_16_103, t_16_104, t_16_105, t_16_106, t_16_107, t_16_108, t_16_109, t_16_110, t_16_111, of_decide_eq_true c_108, c_117, c_126, hse]
            have hp9 : stP L M k = k + 4 := by simp [stP, en1, t_16_112, t_16_102, t_16_103, t_16_104, t_16_105, t_16_106, t_16_107, t_16_108, t_16_109, t_16_110, t_16_111, of_decide_eq_true c_108, c_117, c_126, hse]
            exact r_zret (by decide) cx hw (⟨_, fun h9 => absurd h9 (by rw [hs9]; decide), by rw [hs9]; rfl, by rw [hp9]⟩) (Nat.le_of_ble_eq_true rfl) (Nat.le_of_ble_eq_true rfl) dX9_readsStatement_238
  by_cases t_16_113 : hrF L M k = 113
  · skip
    refine lv_tableIn (tgt := 212) hx hb dX9_readsStatement_16 (by rw [t_16_113]; decide) (by rw [t_16_113]; decide) (by rw [t_16_113]; rfl) (by decide) ?_
    refine lv_aload_n hx hb dX9_readsStatement_212 rfl (lv_at hl 1 rfl) ?_
    refine lv_dup hx hb dX9_readsStatement_213 rfl ?_
    refine r_get cx hw in_X9 0 (ci := 8) (T := TX9) (N := 13) rfl rfl 10 (by decide) q1179 (fun _ h9 => h9) rfl dX9_readsStatement_214 ?_
    refine lv_iconst (v := 1) hx hb dX9_readsStatement_217 (by decide) ?_
    refine lv_isub hx hb dX9_readsStatement_218 ?_
    refine r_topi (x' := nI k) (by rw [show (1 : Int32) = nI 1 from rfl, pk_sub (by omega), Nat.add_sub_cancel]) ?_
    refine r_put cx hw in_X9 tyX9 tyX9_ok nmX9 0 (ci := 8) (T := TX9) (N := 13) rfl rfl 10 (by decide) q1179 (fun _ h9 => h9) rfl (rfl) (rfl) (Nat.le_of_ble_eq_true rfl) dX9_readsStatement_219 (fun H locs hw => ?_)
    have hw : WS g A9 s9.heap (WM g a s m im wa L R rf nu hi (nI M) rn (nI k) sd) H locs := hw
    refine lv_iconst (v := 0) hx hb dX9_readsStatement_222 (by decide) ?_
    have hs9 : stB L M k = false := by simp [stB, t_16_113, t_16_102, t_16_103, t_16_104, t_16_105, t_16_106, t_16_107, t_16_108, t_16_109, t_16_110, t_16_111, t_16_112]
    have hp9 : stP L M k = k := by simp [stP, en1, t_16_113, t_16_102, t_16_103, t_16_104, t_16_105, t_16_106, t_16_107, t_16_108, t_16_109, t_16_110, t_16_111, t_16_112]
    exact r_zret (by decide) cx hw (⟨_, fun h9 => absurd h9 (by rw [hs9]; decide), by rw [hs9]; rfl, by rw [hp9]⟩) (Nat.le_of_ble_eq_true rfl) (Nat.le_of_ble_eq_true rfl) dX9_readsStatement_223
  by_cases t_16_114 : hrF L M k = 114
  · skip
    refine lv_tableIn (tgt := 212) hx hb dX9_readsStatement_16 (by rw [t_16_114]; decide) (by rw [t_16_114]; decide) (by rw [t_16_114]; rfl) (by decide) ?_
    refine lv_aload_n hx hb dX9_readsStatement_212 rfl (lv_at hl 1 rfl) ?_
    refine lv_dup hx hb dX9_readsStatement_213 rfl ?_
    refine r_get cx hw in_X9 0 (ci := 8) (T := TX9) (N := 13) rfl rfl 10 (by decide) q1179 (fun _ h9 => h9) rfl dX9_readsStatement_214 ?_
    refine lv_iconst (v := 1) hx hb dX9_readsStatement_217 (by decide) ?_
    refine lv_isub hx hb dX9_readsStatement_218 ?_
    refine r_topi (x' := nI k) (by rw [show (1 : Int32) = nI 1 from rfl, pk_sub (by omega), Nat.add_sub_cancel]) ?_
    refine r_put cx hw in_X9 tyX9 tyX9_ok nmX9 0 (ci := 8) (T := TX9) (N := 13) rfl rfl 10 (by decide) q1179 (fun _ h9 => h9) rfl (rfl) (rfl) (Nat.le_of_ble_eq_true rfl) dX9_readsStatement_219 (fun H locs hw => ?_)
    have hw : WS g A9 s9.heap (WM g a s m im wa L R rf nu hi (nI M) rn (nI k) sd) H locs := hw
    refine lv_iconst (v := 0) hx hb dX9_readsStatement_222 (by decide) ?_
    have hs9 : stB L M k = false := by simp [stB, t_16_114, t_16_102, t_16_103, t_16_104, t_16_105, t_16_106, t_16_107, t_16_108, t_16_109, t_16_110, t_16_111, t_16_112, t_16_113]
    have hp9 : stP L M k = k := by simp [stP, en1, t_16_114, t_16_102, t_16_103, t_16_104, t_16_105, t_16_106, t_16_107, t_16_108, t_16_109, t_16_110, t_16_111, t_16_112, t_16_113]
    exact r_zret (by decide) cx hw (⟨_, fun h9 => absurd h9 (by rw [hs9]; decide), by rw [hs9]; rfl, by rw [hp9]⟩) (Nat.le_of_ble_eq_true rfl) (Nat.le_of_ble_eq_true rfl) dX9_readsStatement_223
  by_cases t_16_115 : hrF L M k = 115
  · skip
    refine lv_tableIn (tgt := 202) hx hb dX9_readsStatement_16 (by rw [t_16_115]; decide) (by rw [t_16_115]; decide) (by rw [t_16_115]; rfl) (by decide) ?_
    refine lv_aload_n hx hb dX9_readsStatement_202 rfl (lv_at hl 1 rfl) ?_
    refine lv_iconst (v := 0) hx hb dX9_readsStatement_203 (by decide) ?_
    refine lv_iconst (v := 1) hx hb dX9_readsStatement_204 (by decide) ?_
    refine r_detP (α := Nat → Int32) (C := fun x9 => alB (fun i => dgB L M (k + 1 + i)) 1 = true → x9 = upd nu 0 (dgV L M (k + 1) 1)) (r_V cx hw (kX9_readsNumber l hl9 g a s m im wa L R rf nu hi rn sd M (k + 1) (by omega) (by omega) 0 1 (by omega) (by omega)) (cwV 2 hts (lw_V q1236 q1238 qs69 q94 q1239) rfl rfl rfl (by decide +kernel) ⟨Nat.le_of_ble_eq_true rfl, Nat.le_of_ble_eq_true rfl⟩) (r_recv hK hw (k := 0) (ci := 8) rfl rfl) [0, 1, 2, 3, 4, 5, 6, 7, 8] rfl rfl rfl hl.1 rfl (Nat.le_of_ble_eq_true rfl) dX9_readsStatement_205 ⟨Nat.le_of_ble_eq_true rfl, Nat.le_of_ble_eq_true rfl⟩) cx hw [0, 1, 2, 3, 4, 5, 6, 7, 8] rfl rfl (fun _ => WM_adr) (ws' := fun x9 => WM g a s m im wa L R rf x9 hi (nI M) rn (nI (ldC (dgB L M) 1 (k + 1))) sd) (fun _ => rfl) (fun nn_33 H locs hnn_33 hw => ?_)
    have hnn_33 : alB (fun i => dgB L M (k + 1 + i)) 1 = true → nn_33 = upd nu 0 (dgV L M (k + 1) 1) := hnn_33
    refine W.eq (g2 := F0 m9 208 ls [.int (bI (alB (fun i => dgB L M (k + 1 + i)) 1))]) rfl ?_
    have hw : WS g A9 s9.heap (WM g a s m im wa L R rf nn_33 hi (nI M) rn (nI (ldC (dgB L M) 1 (k + 1))) sd) H locs := hw
    refine r_topi (x' := bI (dgB L M (k + 1))) (by simp only [alB, Bool.true_and, Nat.add_zero, Nat.add_assoc, Nat.reduceAdd]) ?_
    have hw : WS g A9 s9.heap (WM g a s m im wa L R rf nn_33 hi (nI M) rn (nI (if dgB L M (k + 1) = true then k + 2 else k + 1)) sd) H locs := hw
    have hnn_33 : (dgB L M (k + 1)) = true → nn_33 = upd nu 0 (d1 L M (k + 1)) := fun h9 => (hnn_33 (by simp only [alB, Bool.true_and, Nat.add_zero, Nat.add_assoc, Nat.reduceAdd]; exact h9)).trans (by rw [dgV_1])
    refine lv_istore_n (lv' := [(2, .int (bI (dgB L M (k + 1)))), (1, .int (hrF L M k)), (0, .ref (a 0))]) hx hb dX9_readsStatement_208 rfl hl (by decide) rfl (fun ls hl => ?_)
    refine lv_goto (tgt := 224) hx hb dX9_readsStatement_209 (by decide) ?_
    refine lv_iload_n hx hb dX9_readsStatement_224 rfl (lv_at hl 0 rfl) ?_
    refine lv_if_eq (tgt := 237) hx hb dX9_readsStatement_225 (by decide) (fun c_225 => ?_) (fun c_225 => ?_)
    · skip
      have c_225 := bI_e0 c_225
      refine lv_iconst (v := 0) hx hb dX9_readsStatement_237 (by decide) ?_
      have hs9 : stB L M k = false := by simp [stB, t_16_115, t_16_102, t_16_103, t_16_104, t_16_105, t_16_106, t_16_107, t_16_108, t_16_109, t_16_110, t_16_111, t_16_112, t_16_113, t_16_114, c_225]
      have hp9 : stP L M k = if dgB L M (k + 1) = true then k + 2 else k + 1 := by simp [stP, en1, t_16_115, t_16_102, t_16_103, t_16_104, t_16_105, t_16_106, t_16_107, t_16_108, t_16_109, t_16_110, t_16_111, t_16_112, t_16_113, t_16_114, c_225]
      exact r_zret (by decide) cx hw (⟨_, fun h9 => absurd h9 (by rw [hs9]; decide), by rw [hs9]; rfl, by rw [hp9]⟩) (Nat.le_of_ble_eq_true rfl) (Nat.le_of_ble_eq_true rfl) dX9_readsStatement_238
    · skip
      have c_225 := bI_n0 c_225
      have hw : WS g A9 s9.heap (WM g a s m im wa L R rf nn_33 hi (nI M) rn (nI (k + 2)) sd) H locs := WS.to hw (by rw [if_pos c_225])
      refine lv_aload_n hx hb dX9_readsStatement_228 rfl (lv_at hl 2 rfl) ?_
      refine r_det (r_V cx hw (kX9_here l hl9 g a s m im wa L R rf nn_33 hi rn sd M (k + 2) (by omega) (by omega) ) (cwV 0 hts (lw_V q1225 q1227 qs67 q94 q1228) rfl rfl rfl (by decide +kernel) ⟨Nat.le_of_ble_eq_true rfl, Nat.le_of_ble_eq_true rfl⟩) (r_recv hK hw (k := 0) (ci := 8) rfl rfl) [0, 1, 2, 3, 4, 5, 6, 7, 8] rfl rfl rfl hl.1 rfl (Nat.le_of_ble_eq_true rfl) dX9_readsStatement_229 ⟨Nat.le_of_ble_eq_true rfl, Nat.le_of_ble_eq_true rfl⟩) cx hw [0, 1, 2, 3, 4, 5, 6, 7, 8] rfl rfl WM_adr (ws' := WM g a s m im wa L R rf nn_33 hi (nI M) rn (nI (k + 2)) sd) (rfl) (fun H locs hw => ?_)
      refine W.eq (g2 := F0 m9 232 ls [.int (hrF L M (k + 2))]) rfl ?_
      refine lv_bipush (v := 59) hx hb dX9_readsStatement_232 (by decide) ?_
      refine lv_icmp_eq (tgt := 239) hx hb dX9_readsStatement_234 (by decide) (fun c_234 => ?_) (fun c_234 => ?_)
      · skip
        have hse : seB L M (k + 2) = true := decide_eq_true c_234
        refine lv_aload_n hx hb dX9_readsStatement_239 rfl (lv_at hl 2 rfl) ?_
        refine lv_dup hx hb dX9_readsStatement_240 rfl ?_
        refine r_get cx hw in_X9 0 (ci := 8) (T := TX9) (N := 13) rfl rfl 10 (by decide) q1179 (fun _ h9 => h9) rfl dX9_readsStatement_241 ?_
        refine lv_iconst (v := 1) hx hb dX9_readsStatement_244 (by decide) ?_
        refine lv_iadd hx hb dX9_readsStatement_245 ?_
        refine r_topi (x' := nI (k + 2 + 1)) (nI_add (k + 2) 1) ?_
        refine r_put cx hw in_X9 tyX9 tyX9_ok nmX9 0 (ci := 8) (T := TX9) (N := 13) rfl rfl 10 (by decide) q1179 (fun _ h9 => h9) rfl (rfl) (rfl) (Nat.le_of_ble_eq_true rfl) dX9_readsStatement_246 (fun H locs hw => ?_)
        have hw : WS g A9 s9.heap (WM g a s m im wa L R rf nn_33 hi (nI M) rn (nI (k + 2 + 1)) sd) H locs := hw
        refine lv_iconst (v := 1) hx hb dX9_readsStatement_249 (by decide) ?_
        have hs9 : stB L M k = true := by simp [stB, t_16_115, t_16_102, t_16_103, t_16_104, t_16_105, t_16_106, t_16_107, t_16_108, t_16_109, t_16_110, t_16_111, t_16_112, t_16_113, t_16_114, c_225, hse]
        have hp9 : stP L M k = k + 2 + 1 := by simp [stP, en1, t_16_115, t_16_102, t_16_103, t_16_104, t_16_105, t_16_106, t_16_107, t_16_108, t_16_109, t_16_110, t_16_111, t_16_112, t_16_113, t_16_114, c_225, hse]
        exact r_zret (by decide) cx hw (⟨nn_33, fun _ => by rw [hnn_33 c_225]; simp [nuOK, n0F, n1F, n2F, upd, t_16_115, t_16_102, t_16_103, t_16_104, t_16_105, t_16_106, t_16_107, t_16_108, t_16_109, t_16_110, t_16_111, t_16_112, t_16_113, t_16_114], by rw [hs9]; rfl, by rw [hp9]⟩) (Nat.le_of_ble_eq_true rfl) (Nat.le_of_ble_eq_true rfl) dX9_readsStatement_250
      · skip
        have hse : seB L M (k + 2) = false := decide_eq_false c_234
        refine lv_iconst (v := 0) hx hb dX9_readsStatement_237 (by decide) ?_
        have hs9 : stB L M k = false := by simp [stB, t_16_115, t_16_102, t_16_103, t_16_104, t_16_105, t_16_106, t_16_107, t_16_108, t_16_109, t_16_110, t_16_111, t_16_112, t_16_113, t_16_114, c_225, hse]
        have hp9 : stP L M k = k + 2 := by simp [stP, en1, t_16_115, t_16_102, t_16_103, t_16_104, t_16_105, t_16_106, t_16_107, t_16_108, t_16_109, t_16_110, t_16_111, t_16_112, t_16_113, t_16_114, c_225, hse]
        exact r_zret (by decide) cx hw (⟨_, fun h9 => absurd h9 (by rw [hs9]; decide), by rw [hs9]; rfl, by rw [hp9]⟩) (Nat.le_of_ble_eq_true rfl) (Nat.le_of_ble_eq_true rfl) dX9_readsStatement_238
  by_cases t_16_116 : hrF L M k = 116
  · skip
    refine lv_tableIn (tgt := 212) hx hb dX9_readsStatement_16 (by rw [t_16_116]; decide) (by rw [t_16_116]; decide) (by rw [t_16_116]; rfl) (by decide) ?_
    refine lv_aload_n hx hb dX9_readsStatement_212 rfl (lv_at hl 1 rfl) ?_
    refine lv_dup hx hb dX9_readsStatement_213 rfl ?_
    refine r_get cx hw in_X9 0 (ci := 8) (T := TX9) (N := 13) rfl rfl 10 (by decide) q1179 (fun _ h9 => h9) rfl dX9_readsStatement_214 ?_
    refine lv_iconst (v := 1) hx hb dX9_readsStatement_217 (by decide) ?_
    refine lv_isub hx hb dX9_readsStatement_218 ?_
    refine r_topi (x' := nI k) (by rw [show (1 : Int32) = nI 1 from rfl, pk_sub (by omega), Nat.add_sub_cancel]) ?_
    refine r_put cx hw in_X9 tyX9 tyX9_ok nmX9 0 (ci := 8) (T := TX9) (N := 13) rfl rfl 10 (by decide) q1179 (fun _ h9 => h9) rfl (rfl) (rfl) (Nat.le_of_ble_eq_true rfl) dX9_readsStatement_219 (fun H locs hw => ?_)
    have hw : WS g A9 s9.heap (WM g a s m im wa L R rf nu hi (nI M) rn (nI k) sd) H locs := hw
    refine lv_iconst (v := 0) hx hb dX9_readsStatement_222 (by decide) ?_
    have hs9 : stB L M k = false := by simp [stB, t_16_116, t_16_102, t_16_103, t_16_104, t_16_105, t_16_106, t_16_107, t_16_108, t_16_109, t_16_110, t_16_111, t_16_112, t_16_113, t_16_114, t_16_115]
    have hp9 : stP L M k = k := by simp [stP, en1, t_16_116, t_16_102, t_16_103, t_16_104, t_16_105, t_16_106, t_16_107, t_16_108, t_16_109, t_16_110, t_16_111, t_16_112, t_16_113, t_16_114, t_16_115]
    exact r_zret (by decide) cx hw (⟨_, fun h9 => absurd h9 (by rw [hs9]; decide), by rw [hs9]; rfl, by rw [hp9]⟩) (Nat.le_of_ble_eq_true rfl) (Nat.le_of_ble_eq_true rfl) dX9_readsStatement_223
  by_cases t_16_117 : hrF L M k = 117
  · skip
    refine lv_tableIn (tgt := 212) hx hb dX9_readsStatement_16 (by rw [t_16_117]; decide) (by rw [t_16_117]; decide) (by rw [t_16_117]; rfl) (by decide) ?_
    refine lv_aload_n hx hb dX9_readsStatement_212 rfl (lv_at hl 1 rfl) ?_
    refine lv_dup hx hb dX9_readsStatement_213 rfl ?_
    refine r_get cx hw in_X9 0 (ci := 8) (T := TX9) (N := 13) rfl rfl 10 (by decide) q1179 (fun _ h9 => h9) rfl dX9_readsStatement_214 ?_
    refine lv_iconst (v := 1) hx hb dX9_readsStatement_217 (by decide) ?_
    refine lv_isub hx hb dX9_readsStatement_218 ?_
    refine r_topi (x' := nI k) (by rw [show (1 : Int32) = nI 1 from rfl, pk_sub (by omega), Nat.add_sub_cancel]) ?_
    refine r_put cx hw in_X9 tyX9 tyX9_ok nmX9 0 (ci := 8) (T := TX9) (N := 13) rfl rfl 10 (by decide) q1179 (fun _ h9 => h9) rfl (rfl) (rfl) (Nat.le_of_ble_eq_true rfl) dX9_readsStatement_219 (fun H locs hw => ?_)
    have hw : WS g A9 s9.heap (WM g a s m im wa L R rf nu hi (nI M) rn (nI k) sd) H locs := hw
    refine lv_iconst (v := 0) hx hb dX9_readsStatement_222 (by decide) ?_
    have hs9 : stB L M k = false := by simp [stB, t_16_117, t_16_102, t_16_103, t_16_104, t_16_105, t_16_106, t_16_107, t_16_108, t_16_109, t_16_110, t_16_111, t_16_112, t_16_113, t_16_114, t_16_115, t_16_116]
    have hp9 : stP L M k = k := by simp [stP, en1, t_16_117, t_16_102, t_16_103, t_16_104, t_16_105, t_16_106, t_16_107, t_16_108, t_16_109, t_16_110, t_16_111, t_16_112, t_16_113, t_16_114, t_16_115, t_16_116]
    exact r_zret (by decide) cx hw (⟨_, fun h9 => absurd h9 (by rw [hs9]; decide), by rw [hs9]; rfl, by rw [hp9]⟩) (Nat.le_of_ble_eq_true rfl) (Nat.le_of_ble_eq_true rfl) dX9_readsStatement_223
  by_cases t_16_118 : hrF L M k = 118
  · skip
    refine lv_tableIn (tgt := 212) hx hb dX9_readsStatement_16 (by rw [t_16_118]; decide) (by rw [t_16_118]; decide) (by rw [t_16_118]; rfl) (by decide) ?_
    refine lv_aload_n hx hb dX9_readsStatement_212 rfl (lv_at hl 1 rfl) ?_
    refine lv_dup hx hb dX9_readsStatement_213 rfl ?_
    refine r_get cx hw in_X9 0 (ci := 8) (T := TX9) (N := 13) rfl rfl 10 (by decide) q1179 (fun _ h9 => h9) rfl dX9_readsStatement_214 ?_
    refine lv_iconst (v := 1) hx hb dX9_readsStatement_217 (by decide) ?_
    refine lv_isub hx hb dX9_readsStatement_218 ?_
    refine r_topi (x' := nI k) (by rw [show (1 : Int32) = nI 1 from rfl, pk_sub (by omega), Nat.add_sub_cancel]) ?_
    refine r_put cx hw in_X9 tyX9 tyX9_ok nmX9 0 (ci := 8) (T := TX9) (N := 13) rfl rfl 10 (by decide) q1179 (fun _ h9 => h9) rfl (rfl) (rfl) (Nat.le_of_ble_eq_true rfl) dX9_readsStatement_219 (fun H locs hw => ?_)
    have hw : WS g A9 s9.heap (WM g a s m im wa L R rf nu hi (nI M) rn (nI k) sd) H locs := hw
    refine lv_iconst (v := 0) hx hb dX9_readsStatement_222 (by decide) ?_
    have hs9 : stB L M k = false := by simp [stB, t_16_118, t_16_102, t_16_103, t_16_104, t_16_105, t_16_106, t_16_107, t_16_108, t_16_109, t_16_110, t_16_111, t_16_112, t_16_113, t_16_114, t_16_115, t_16_116, t_16_117]
    have hp9 : stP L M k = k := by simp [stP, en1, t_16_118, t_16_102, t_16_103, t_16_104, t_16_105, t_16_106, t_16_107, t_16_108, t_16_109, t_16_110, t_16_111, t_16_112, t_16_113, t_16_114, t_16_115, t_16_116, t_16_117]
    exact r_zret (by decide) cx hw (⟨_, fun h9 => absurd h9 (by rw [hs9]; decide), by rw [hs9]; rfl, by rw [hp9]⟩) (Nat.le_of_ble_eq_true rfl) (Nat.le_of_ble_eq_true rfl) dX9_readsStatement_223
  by_cases t_16_119 : hrF L M k = 119
  · skip
    refine lv_tableIn (tgt := 192) hx hb dX9_readsStatement_16 (by rw [t_16_119]; decide) (by rw [t_16_119]; decide) (by rw [t_16_119]; rfl) (by decide) ?_
    refine lv_aload_n hx hb dX9_readsStatement_192 rfl (lv_at hl 1 rfl) ?_
    refine lv_iconst (v := 0) hx hb dX9_readsStatement_193 (by decide) ?_
    refine lv_iconst (v := 2) hx hb dX9_readsStatement_194 (by decide) ?_
    refine r_detP (α := Nat → Int32) (C := fun x9 => alB (fun i => dgB L M (k + 1 + i)) 2 = true → x9 = upd nu 0 (dgV L M (k + 1) 2)) (r_V cx hw (kX9_readsNumber l hl9 g a s m im wa L R rf nu hi rn sd M (k + 1) (by omega) (by omega) 0 2 (by omega) (by omega)) (cwV 2 hts (lw_V q1236 q1238 qs69 q94 q1239) rfl rfl rfl (by decide +kernel) ⟨Nat.le_of_ble_eq_true rfl, Nat.le_of_ble_eq_true rfl⟩) (r_recv hK hw (k := 0) (ci := 8) rfl rfl) [0, 1, 2, 3, 4, 5, 6, 7, 8] rfl rfl rfl hl.1 rfl (Nat.le_of_ble_eq_true rfl) dX9_readsStatement_195 ⟨Nat.le_of_ble_eq_true rfl, Nat.le_of_ble_eq_true rfl⟩) cx hw [0, 1, 2, 3, 4, 5, 6, 7, 8] rfl rfl (fun _ => WM_adr) (ws' := fun x9 => WM g a s m im wa L R rf x9 hi (nI M) rn (nI (ldC (dgB L M) 2 (k + 1))) sd) (fun _ => rfl) (fun nn_36 H locs hnn_36 hw => ?_)
    have hnn_36 : alB (fun i => dgB L M (k + 1 + i)) 2 = true → nn_36 = upd nu 0 (dgV L M (k + 1) 2) := hnn_36
    refine W.eq (g2 := F0 m9 198 ls [.int (bI (alB (fun i => dgB L M (k + 1 + i)) 2))]) rfl ?_
    have hw : WS g A9 s9.heap (WM g a s m im wa L R rf nn_36 hi (nI M) rn (nI (ldC (dgB L M) 2 (k + 1))) sd) H locs := hw
    refine r_topi (x' := bI (dgB L M (k + 1) && dgB L M (k + 2))) (by simp only [alB, Bool.true_and, Nat.add_zero, Nat.add_assoc, Nat.reduceAdd]) ?_
    have hw : WS g A9 s9.heap (WM g a s m im wa L R rf nn_36 hi (nI M) rn (nI (if dgB L M (k + 1) = true then if dgB L M (k + 2) = true then k + 3 else k + 2 else k + 1)) sd) H locs := hw
    have hnn_36 : (dgB L M (k + 1) && dgB L M (k + 2)) = true → nn_36 = upd nu 0 (d2 L M (k + 1)) := fun h9 => (hnn_36 (by simp only [alB, Bool.true_and, Nat.add_zero, Nat.add_assoc, Nat.reduceAdd]; exact h9)).trans (by rw [dgV_2])
    refine lv_istore_n (lv' := [(2, .int (bI (dgB L M (k + 1) && dgB L M (k + 2)))), (1, .int (hrF L M k)), (0, .ref (a 0))]) hx hb dX9_readsStatement_198 rfl hl (by decide) rfl (fun ls hl => ?_)
    refine lv_goto (tgt := 224) hx hb dX9_readsStatement_199 (by decide) ?_
    refine lv_iload_n hx hb dX9_readsStatement_224 rfl (lv_at hl 0 rfl) ?_
    refine lv_if_eq (tgt := 237) hx hb dX9_readsStatement_225 (by decide) (fun c_225 => ?_) (fun c_225 => ?_)
    · skip
      have c_225 := bI_e0 c_225
      refine lv_iconst (v := 0) hx hb dX9_readsStatement_237 (by decide) ?_
      have hs9 : stB L M k = false := by cases hd1 : dgB L M (k + 1) <;> cases hd2 : dgB L M (k + 2) <;> simp_all [stB]
      have hp9 : stP L M k = if dgB L M (k + 1) = true then if dgB L M (k + 2) = true then k + 3 else k + 2 else k + 1 := by cases hd1 : dgB L M (k + 1) <;> cases hd2 : dgB L M (k + 2) <;> simp_all [stP, en1]
      exact r_zret (by decide) cx hw (⟨_, fun h9 => absurd h9 (by rw [hs9]; decide), by rw [hs9]; rfl, by rw [hp9]⟩) (Nat.le_of_ble_eq_true rfl) (Nat.le_of_ble_eq_true rfl) dX9_readsStatement_238
    · skip
      have c_225 := bI_n0 c_225
      have h225 : dgB L M (k + 1) = true ∧ dgB L M (k + 2) = true := by simpa using c_225
      have hw : WS g A9 s9.heap (WM g a s m im wa L R rf nn_36 hi (nI M) rn (nI (k + 3)) sd) H locs := WS.to hw (by rw [if_pos h225.1, if_pos h225.2])
      refine lv_aload_n hx hb dX9_readsStatement_228 rfl (lv_at hl 2 rfl) ?_
      refine r_det (r_V cx hw (kX9_here l hl9 g a s m im wa L R rf nn_36 hi rn sd M (k + 3) (by omega) (by omega) ) (cwV 0 hts (lw_V q1225 q1227 qs67 q94 q1228) rfl rfl rfl (by decide +kernel) ⟨Nat.le_of_ble_eq_true rfl, Nat.le_of_ble_eq_true rfl⟩) (r_recv hK hw (k := 0) (ci := 8) rfl rfl) [0, 1, 2, 3, 4, 5, 6, 7, 8] rfl rfl rfl hl.1 rfl (Nat.le_of_ble_eq_true rfl) dX9_readsStatement_229 ⟨Nat.le_of_ble_eq_true rfl, Nat.le_of_ble_eq_true rfl⟩) cx hw [0, 1, 2, 3, 4, 5, 6, 7, 8] rfl rfl WM_adr (ws' := WM g a s m im wa L R rf nn_36 hi (nI M) rn (nI (k + 3)) sd) (rfl) (fun H locs hw => ?_)
      refine W.eq (g2 := F0 m9 232 ls [.int (hrF L M (k + 3))]) rfl ?_
      refine lv_bipush (v := 59) hx hb dX9_readsStatement_232 (by decide) ?_
      refine lv_icmp_eq (tgt := 239) hx hb dX9_readsStatement_234 (by decide) (fun c_234 => ?_) (fun c_234 => ?_)
      · skip
        have hse : seB L M (k + 3) = true := decide_eq_true c_234
        refine lv_aload_n hx hb dX9_readsStatement_239 rfl (lv_at hl 2 rfl) ?_
        refine lv_dup hx hb dX9_readsStatement_240 rfl ?_
        refine r_get cx hw in_X9 0 (ci := 8) (T := TX9) (N := 13) rfl rfl 10 (by decide) q1179 (fun _ h9 => h9) rfl dX9_readsStatement_241 ?_
        refine lv_iconst (v := 1) hx hb dX9_readsStatement_244 (by decide) ?_
        refine lv_iadd hx hb dX9_readsStatement_245 ?_
        refine r_topi (x' := nI (k + 3 + 1)) (nI_add (k + 3) 1) ?_
        refine r_put cx hw in_X9 tyX9 tyX9_ok nmX9 0 (ci := 8) (T := TX9) (N := 13) rfl rfl 10 (by decide) q1179 (fun _ h9 => h9) rfl (rfl) (rfl) (Nat.le_of_ble_eq_true rfl) dX9_readsStatement_246 (fun H locs hw => ?_)
        have hw : WS g A9 s9.heap (WM g a s m im wa L R rf nn_36 hi (nI M) rn (nI (k + 3 + 1)) sd) H locs := hw
        refine lv_iconst (v := 1) hx hb dX9_readsStatement_249 (by decide) ?_
        have hs9 : stB L M k = true := by simp [stB, t_16_119, t_16_102, t_16_103, t_16_104, t_16_105, t_16_106, t_16_107, t_16_108, t_16_109, t_16_110, t_16_111, t_16_112, t_16_113, t_16_114, t_16_115, t_16_116, t_16_117, t_16_118, h225.1, h225.2, hse]
        have hp9 : stP L M k = k + 3 + 1 := by simp [stP, en1, t_16_119, t_16_102, t_16_103, t_16_104, t_16_105, t_16_106, t_16_107, t_16_108, t_16_109, t_16_110, t_16_111, t_16_112, t_16_113, t_16_114, t_16_115, t_16_116, t_16_117, t_16_118, h225.1, h225.2, hse]
        exact r_zret (by decide) cx hw (⟨nn_36, fun _ => by rw [hnn_36 c_225]; simp [nuOK, n0F, n1F, n2F, upd, t_16_119, t_16_102, t_16_103, t_16_104, t_16_105, t_16_106, t_16_107, t_16_108, t_16_109, t_16_110, t_16_111, t_16_112, t_16_113, t_16_114, t_16_115, t_16_116, t_16_117, t_16_118], by rw [hs9]; rfl, by rw [hp9]⟩) (Nat.le_of_ble_eq_true rfl) (Nat.le_of_ble_eq_true rfl) dX9_readsStatement_250
      · skip
        have hse : seB L M (k + 3) = false := decide_eq_false c_234
        refine lv_iconst (v := 0) hx hb dX9_readsStatement_237 (by decide) ?_
        have hs9 : stB L M k = false := by simp [stB, t_16_119, t_16_102, t_16_103, t_16_104, t_16_105, t_16_106, t_16_107, t_16_108, t_16_109, t_16_110, t_16_111, t_16_112, t_16_113, t_16_114, t_16_115, t_16_116, t_16_117, t_16_118, h225.1, h225.2, hse]
        have hp9 : stP L M k = k + 3 := by simp [stP, en1, t_16_119, t_16_102, t_16_103, t_16_104, t_16_105, t_16_106, t_16_107, t_16_108, t_16_109, t_16_110, t_16_111, t_16_112, t_16_113, t_16_114, t_16_115, t_16_116, t_16_117, t_16_118, h225.1, h225.2, hse]
        exact r_zret (by decide) cx hw (⟨_, fun h9 => absurd h9 (by rw [hs9]; decide), by rw [hs9]; rfl, by rw [hp9]⟩) (Nat.le_of_ble_eq_true rfl) (Nat.le_of_ble_eq_true rfl) dX9_readsStatement_238
  refine lv_tableOut (tgt := 212) hx hb dX9_readsStatement_16 (by have : ¬ (hrF L M k).toInt = 102 := lv_neT t_16_102 rfl; have : ¬ (hrF L M k).toInt = 103 := lv_neT t_16_103 rfl; have : ¬ (hrF L M k).toInt = 104 := lv_neT t_16_104 rfl; have : ¬ (hrF L M k).toInt = 105 := lv_neT t_16_105 rfl; have : ¬ (hrF L M k).toInt = 106 := lv_neT t_16_106 rfl; have : ¬ (hrF L M k).toInt = 107 := lv_neT t_16_107 rfl; have : ¬ (hrF L M k).toInt = 108 := lv_neT t_16_108 rfl; have : ¬ (hrF L M k).toInt = 109 := lv_neT t_16_109 rfl; have : ¬ (hrF L M k).toInt = 110 := lv_neT t_16_110 rfl; have : ¬ (hrF L M k).toInt = 111 := lv_neT t_16_111 rfl; have : ¬ (hrF L M k).toInt = 112 := lv_neT t_16_112 rfl; have : ¬ (hrF L M k).toInt = 113 := lv_neT t_16_113 rfl; have : ¬ (hrF L M k).toInt = 114 := lv_neT t_16_114 rfl; have : ¬ (hrF L M k).toInt = 115 := lv_neT t_16_115 rfl; have : ¬ (hrF L M k).toInt = 116 := lv_neT t_16_116 rfl; have : ¬ (hrF L M k).toInt = 117 := lv_neT t_16_117 rfl; have : ¬ (hrF L M k).toInt = 118 := lv_neT t_16_118 rfl; have : ¬ (hrF L M k).toInt = 119 := lv_neT t_16_119 rfl; omega) (by decide) ?_
  refine lv_aload_n hx hb dX9_readsStatement_212 rfl (lv_at hl 1 rfl) ?_
  refine lv_dup hx hb dX9_readsStatement_213 rfl ?_
  refine r_get cx hw in_X9 0 (ci := 8) (T := TX9) (N := 13) rfl rfl 10 (by decide) q1179 (fun _ h9 => h9) rfl dX9_readsStatement_214 ?_
  refine lv_iconst (v := 1) hx hb dX9_readsStatement_217 (by decide) ?_
  refine lv_isub hx hb dX9_readsStatement_218 ?_
  refine r_topi (x' := nI k) (by rw [show (1 : Int32) = nI 1 from rfl, pk_sub (by omega), Nat.add_sub_cancel]) ?_
  refine r_put cx hw in_X9 tyX9 tyX9_ok nmX9 0 (ci := 8) (T := TX9) (N := 13) rfl rfl 10 (by decide) q1179 (fun _ h9 => h9) rfl (rfl) (rfl) (Nat.le_of_ble_eq_true rfl) dX9_readsStatement_219 (fun H locs hw => ?_)
  have hw : WS g A9 s9.heap (WM g a s m im wa L R rf nu hi (nI M) rn (nI k) sd) H locs := hw
  refine lv_iconst (v := 0) hx hb dX9_readsStatement_222 (by decide) ?_
  have hs9 : stB L M k = false := by simp [stB, t_16_102, t_16_103, t_16_104, t_16_105, t_16_106, t_16_107, t_16_108, t_16_109, t_16_110, t_16_111, t_16_112, t_16_113, t_16_114, t_16_115, t_16_116, t_16_117, t_16_118, t_16_119]
  have hp9 : stP L M k = k := by simp [stP, en1, t_16_102, t_16_103, t_16_104, t_16_105, t_16_106, t_16_107, t_16_108, t_16_109, t_16_110, t_16_111, t_16_112, t_16_113, t_16_114, t_16_115, t_16_116, t_16_117, t_16_118, t_16_119]
  exact r_zret (by decide) cx hw (⟨_, fun h9 => absurd h9 (by rw [hs9]; decide), by rw [hs9]; rfl, by rw [hp9]⟩) (Nat.le_of_ble_eq_true rfl) (Nat.le_of_ble_eq_true rfl) dX9_readsStatement_223
