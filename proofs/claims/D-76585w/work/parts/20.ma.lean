/-! the reference: static methods -/
set_option maxRecDepth 100000
set_option maxHeartbeats 4000000 in
set_option maxRecDepth 100000 in
theorem kX9_isIn (l : Launch) (hl9 : l.stackTraces = false) (g : GG) (v lo hi : Int32) : MC l yX9_isIn cX9_isIn 3 (some .boolean) 0 0 0 0 g [.int v, .int lo, .int hi] [] (rt (some (.int (bI (isInB v lo hi)))) []) (noX) := by
  refine MC.of (by decide) (Nat.le_of_ble_eq_true rfl) ?_
  intro p9 e9 s9 m9 args9 below9 meth9 c9 A9 ls cx htab hw hl
  have hx := cx.1
  have hb := cx.2.1
  have hts := cx.2.2.2.2.1
  have hK := cx.2.2.2.2.2.2.2.1
  have hl : lv_has ls 3 [(0, .int v), (1, .int lo), (2, .int hi)] := hl
  refine lv_iload_n hx hb dX9_isIn_0 rfl (lv_at hl 0 rfl) ?_
  refine lv_iload_n hx hb dX9_isIn_1 rfl (lv_at hl 1 rfl) ?_
  refine lv_icmp_lt (tgt := 14) hx hb dX9_isIn_2 (by decide) (fun c_2 => ?_) (fun c_2 => ?_)
  · skip
    have c_2N := Int32.not_le.mpr c_2
    refine lv_iconst (v := 0) hx hb dX9_isIn_14 (by decide) ?_
    exact r_zret (by decide) cx hw (⟨by simp [isInB, bI, c_2, c_2N], rfl⟩) (Nat.le_of_ble_eq_true rfl) (Nat.le_of_ble_eq_true rfl) dX9_isIn_15
  · skip
    have c_2N := Int32.not_lt.mp c_2
    refine lv_iload_n hx hb dX9_isIn_5 rfl (lv_at hl 0 rfl) ?_
    refine lv_iload_n hx hb dX9_isIn_6 rfl (lv_at hl 2 rfl) ?_
    refine lv_icmp_gt (tgt := 14) hx hb dX9_isIn_7 (by decide) (fun c_7 => ?_) (fun c_7 => ?_)
    · skip
      have c_7N := Int32.not_le.mpr c_7
      refine lv_iconst (v := 0) hx hb dX9_isIn_14 (by decide) ?_
      exact r_zret (by decide) cx hw (⟨by simp [isInB, bI, c_2, c_2N, c_7, c_7N], rfl⟩) (Nat.le_of_ble_eq_true rfl) (Nat.le_of_ble_eq_true rfl) dX9_isIn_15
    · skip
      have c_7N := Int32.not_lt.mp c_7
      refine lv_iconst (v := 1) hx hb dX9_isIn_10 (by decide) ?_
      refine lv_goto (tgt := 15) hx hb dX9_isIn_11 (by decide) ?_
      exact r_zret (by decide) cx hw (⟨by simp [isInB, bI, c_2, c_2N, c_7, c_7N], rfl⟩) (Nat.le_of_ble_eq_true rfl) (Nat.le_of_ble_eq_true rfl) dX9_isIn_15

set_option maxHeartbeats 4000000 in
set_option maxRecDepth 100000 in
theorem kX9_least (l : Launch) (hl9 : l.stackTraces = false) (g : GG) (a b : Int32) : MC l yX9_least cX9_least 2 (some .int) 0 0 0 0 g [.int a, .int b] [] (rt (some (.int (leI a b))) []) (noX) := by
  refine MC.of (by decide) (Nat.le_of_ble_eq_true rfl) ?_
  intro p9 e9 s9 m9 args9 below9 meth9 c9 A9 ls cx htab hw hl
  have hx := cx.1
  have hb := cx.2.1
  have hts := cx.2.2.2.2.1
  have hK := cx.2.2.2.2.2.2.2.1
  have hl : lv_has ls 2 [(0, .int a), (1, .int b)] := hl
  refine lv_iload_n hx hb dX9_least_0 rfl (lv_at hl 0 rfl) ?_
  refine lv_iload_n hx hb dX9_least_1 rfl (lv_at hl 1 rfl) ?_
  refine lv_icmp_ge (tgt := 9) hx hb dX9_least_2 (by decide) (fun c_2 => ?_) (fun c_2 => ?_)
  · skip
    have c_2N := Int32.not_lt.mpr c_2
    refine lv_iload_n hx hb dX9_least_9 rfl (lv_at hl 1 rfl) ?_
    exact r_iret cx hw (⟨by simp [leI, c_2, c_2N], rfl⟩) (Nat.le_of_ble_eq_true rfl) (Nat.le_of_ble_eq_true rfl) dX9_least_10
  · skip
    have c_2N := Int32.not_le.mp c_2
    refine lv_iload_n hx hb dX9_least_5 rfl (lv_at hl 0 rfl) ?_
    refine lv_goto (tgt := 10) hx hb dX9_least_6 (by decide) ?_
    exact r_iret cx hw (⟨by simp [leI, c_2, c_2N], rfl⟩) (Nat.le_of_ble_eq_true rfl) (Nat.le_of_ble_eq_true rfl) dX9_least_10

set_option maxHeartbeats 4000000 in
set_option maxRecDepth 100000 in
theorem kX9_of (l : Launch) (hl9 : l.stackTraces = false) (g : GG) (j w : Nat) : MC l yX9_of cX9_of 2 (some .int) 0 0 0 0 g [.int (nI j), .int (nI w)] [] (rt (some (.int (nI (5 + 7 * j + w)))) []) (noX) := by
  refine MC.of (by decide) (Nat.le_of_ble_eq_true rfl) ?_
  intro p9 e9 s9 m9 args9 below9 meth9 c9 A9 ls cx htab hw hl
  have hx := cx.1
  have hb := cx.2.1
  have hts := cx.2.2.2.2.1
  have hK := cx.2.2.2.2.2.2.2.1
  have hl : lv_has ls 2 [(0, .int (nI j)), (1, .int (nI w))] := hl
  refine lv_iconst (v := 5) hx hb dX9_of_0 (by decide) ?_
  refine lv_bipush (v := 7) hx hb dX9_of_1 (by decide) ?_
  refine lv_iload_n hx hb dX9_of_3 rfl (lv_at hl 0 rfl) ?_
  refine lv_imul hx hb dX9_of_4 ?_
  refine r_topi (x' := nI (7 * j)) (pk_mul 7 j) ?_
  refine lv_iadd hx hb dX9_of_5 ?_
  refine r_topi (x' := nI (5 + (7 * j))) (nI_add 5 (7 * j)) ?_
  refine lv_iload_n hx hb dX9_of_6 rfl (lv_at hl 1 rfl) ?_
  refine lv_iadd hx hb dX9_of_7 ?_
  refine r_topi (x' := nI (5 + (7 * j) + w)) (nI_add (5 + (7 * j)) w) ?_
  exact r_iret cx hw (⟨rfl, rfl⟩) (Nat.le_of_ble_eq_true rfl) (Nat.le_of_ble_eq_true rfl) dX9_of_8

set_option maxHeartbeats 4000000 in
set_option maxRecDepth 100000 in
theorem kX9_has (l : Launch) (hl9 : l.stackTraces = false) (g : GG) (b k : Int32) : MC l yX9_has cX9_has 2 (some .boolean) 0 0 0 0 g [.int b, .int k] [] (rt (some (.int (bI (hsB b k)))) []) (noX) := by
  refine MC.of (by decide) (Nat.le_of_ble_eq_true rfl) ?_
  intro p9 e9 s9 m9 args9 below9 meth9 c9 A9 ls cx htab hw hl
  have hx := cx.1
  have hb := cx.2.1
  have hts := cx.2.2.2.2.1
  have hK := cx.2.2.2.2.2.2.2.1
  have hl : lv_has ls 2 [(0, .int b), (1, .int k)] := hl
  refine lv_iload_n hx hb dX9_has_0 rfl (lv_at hl 0 rfl) ?_
  refine lv_iload_n hx hb dX9_has_1 rfl (lv_at hl 1 rfl) ?_
  refine lv_ishr hx hb dX9_has_2 ?_
  refine lv_iconst (v := 1) hx hb dX9_has_3 (by decide) ?_
  refine lv_iand hx hb dX9_has_4 ?_
  refine lv_iconst (v := 1) hx hb dX9_has_5 (by decide) ?_
  refine lv_icmp_ne (tgt := 13) hx hb dX9_has_6 (by decide) (fun c_6 => ?_) (fun c_6 => ?_)
  · skip
    refine lv_iconst (v := 0) hx hb dX9_has_13 (by decide) ?_
    exact r_zret (by decide) cx hw (⟨by simp [hsB, bI, c_6], rfl⟩) (Nat.le_of_ble_eq_true rfl) (Nat.le_of_ble_eq_true rfl) dX9_has_14
  · skip
    refine lv_iconst (v := 1) hx hb dX9_has_9 (by decide) ?_
    refine lv_goto (tgt := 14) hx hb dX9_has_10 (by decide) ?_
    exact r_zret (by decide) cx hw (⟨by simp [hsB, bI, c_6], rfl⟩) (Nat.le_of_ble_eq_true rfl) (Nat.le_of_ble_eq_true rfl) dX9_has_14

set_option maxHeartbeats 4000000 in
set_option maxRecDepth 100000 in
theorem kX9_speaksBy (l : Launch) (hl9 : l.stackTraces = false) (g : GG) (k f : Int32) : MC l yX9_speaksBy cX9_speaksBy 3 (some .int) 1 21 0 0 g [.int k, .int f] [] (rt (some (.int (spB k f))) []) (noX) := by
  refine MC.of (by decide) (Nat.le_of_ble_eq_true rfl) ?_
  intro p9 e9 s9 m9 args9 below9 meth9 c9 A9 ls cx htab hw hl
  have hx := cx.1
  have hb := cx.2.1
  have hts := cx.2.2.2.2.1
  have hK := cx.2.2.2.2.2.2.2.1
  have hl : lv_has ls 3 [(0, .int k), (1, .int f)] := hl
  refine lv_iload_n hx hb dX9_speaksBy_0 rfl (lv_at hl 1 rfl) ?_
  refine lv_iconst (v := 2) hx hb dX9_speaksBy_1 (by decide) ?_
  refine lv_idiv hx hb dX9_speaksBy_2 (by decide) ?_
  refine lv_iconst (v := 1) hx hb dX9_speaksBy_3 (by decide) ?_
  refine lv_iadd hx hb dX9_speaksBy_4 ?_
  refine lv_istore_n (lv' := [(2, .int ((f / 2) + 1)), (0, .int k), (1, .int f)]) hx hb dX9_speaksBy_5 rfl hl (by decide) rfl (fun ls hl => ?_)
  refine lv_iload_n hx hb dX9_speaksBy_6 rfl (lv_at hl 1 rfl) ?_
  by_cases t_7_1 : k = 1
  · skip
    refine lv_tableIn (tgt := 40) hx hb dX9_speaksBy_7 (by rw [t_7_1]; decide) (by rw [t_7_1]; decide) (by rw [t_7_1]; rfl) (by decide) ?_
    refine lv_bipush (v := 12) hx hb dX9_speaksBy_40 (by decide) ?_
    refine lv_iload_n hx hb dX9_speaksBy_42 rfl (lv_at hl 0 rfl) ?_
    refine lv_iconst (v := 3) hx hb dX9_speaksBy_43 (by decide) ?_
    refine lv_iadd hx hb dX9_speaksBy_44 ?_
    refine r_det (r_S cx hw (kX9_least l hl9 g 12 (((f / 2) + 1) + 3)) (va_cwS 2 hts (lw_S q1267 q1268 q94 q1269) rfl rfl rfl (by decide +kernel) ⟨Nat.le_of_ble_eq_true rfl, Nat.le_of_ble_eq_true rfl⟩) [] rfl rfl rfl hl.1 rfl (Nat.le_of_ble_eq_true rfl) dX9_speaksBy_45 ⟨Nat.le_of_ble_eq_true rfl, Nat.le_of_ble_eq_true rfl⟩) cx hw [] rfl rfl rfl (ws' := []) (rfl) (fun H locs hw => ?_)
    refine W.eq (g2 := F0 m9 48 ls [.int (leI 12 (((f / 2) + 1) + 3))]) rfl ?_
    exact r_iret cx hw (⟨by simp [spB, t_7_1], rfl⟩) (Nat.le_of_ble_eq_true rfl) (Nat.le_of_ble_eq_true rfl) dX9_speaksBy_48
  by_cases t_7_2 : k = 2
  · skip
    refine lv_tableIn (tgt := 49) hx hb dX9_speaksBy_7 (by rw [t_7_2]; decide) (by rw [t_7_2]; decide) (by rw [t_7_2]; rfl) (by decide) ?_
    refine lv_iconst (v := 0) hx hb dX9_speaksBy_49 (by decide) ?_
    exact r_iret cx hw (⟨by simp [spB, t_7_2, t_7_1], rfl⟩) (Nat.le_of_ble_eq_true rfl) (Nat.le_of_ble_eq_true rfl) dX9_speaksBy_50
  by_cases t_7_3 : k = 3
  · skip
    refine lv_tableIn (tgt := 51) hx hb dX9_speaksBy_7 (by rw [t_7_3]; decide) (by rw [t_7_3]; decide) (by rw [t_7_3]; rfl) (by decide) ?_
    refine lv_bipush (v := 12) hx hb dX9_speaksBy_51 (by decide) ?_
    exact r_iret cx hw (⟨by simp [spB, t_7_3, t_7_1, t_7_2], rfl⟩) (Nat.le_of_ble_eq_true rfl) (Nat.le_of_ble_eq_true rfl) dX9_speaksBy_53
  by_cases t_7_4 : k = 4
  · skip
    refine lv_tableIn (tgt := 54) hx hb dX9_speaksBy_7 (by rw [t_7_4]; decide) (by rw [t_7_4]; decide) (by rw [t_7_4]; rfl) (by decide) ?_
    refine lv_bipush (v := 12) hx hb dX9_speaksBy_54 (by decide) ?_
    refine lv_iconst (v := 2) hx hb dX9_speaksBy_56 (by decide) ?_
    refine lv_bipush (v := 12) hx hb dX9_speaksBy_57 (by decide) ?_
    refine lv_iload_n hx hb dX9_speaksBy_59 rfl (lv_at hl 0 rfl) ?_
    refine lv_iconst (v := 3) hx hb dX9_speaksBy_60 (by decide) ?_
    refine lv_iadd hx hb dX9_speaksBy_61 ?_
    refine r_det (r_S cx hw (kX9_least l hl9 g 12 (((f / 2) + 1) + 3)) (va_cwS 2 hts (lw_S q1267 q1268 q94 q1269) rfl rfl rfl (by decide +kernel) ⟨Nat.le_of_ble_eq_true rfl, Nat.le_of_ble_eq_true rfl⟩) [] rfl rfl rfl hl.1 rfl (Nat.le_of_ble_eq_true rfl) dX9_speaksBy_62 ⟨Nat.le_of_ble_eq_true rfl, Nat.le_of_ble_eq_true rfl⟩) cx hw [] rfl rfl rfl (ws' := []) (rfl) (fun H locs hw => ?_)
    refine W.eq (g2 := F0 m9 65 ls [.int (leI 12 (((f / 2) + 1) + 3)), .int 2, .int 12]) rfl ?_
    refine lv_imul hx hb dX9_speaksBy_65 ?_
    refine r_det (r_S cx hw (kX9_least l hl9 g 12 (2 * (leI 12 (((f / 2) + 1) + 3)))) (va_cwS 2 hts (lw_S q1267 q1268 q94 q1269) rfl rfl rfl (by decide +kernel) ⟨Nat.le_of_ble_eq_true rfl, Nat.le_of_ble_eq_true rfl⟩) [] rfl rfl rfl hl.1 rfl (Nat.le_of_ble_eq_true rfl) dX9_speaksBy_66 ⟨Nat.le_of_ble_eq_true rfl, Nat.le_of_ble_eq_true rfl⟩) cx hw [] rfl rfl rfl (ws' := []) (rfl) (fun H locs hw => ?_)
    refine W.eq (g2 := F0 m9 69 ls [.int (leI 12 (2 * (leI 12 (((f / 2) + 1) + 3))))]) rfl ?_
    exact r_iret cx hw (⟨by simp [spB, t_7_4, t_7_1, t_7_2, t_7_3], rfl⟩) (Nat.le_of_ble_eq_true rfl) (Nat.le_of_ble_eq_true rfl) dX9_speaksBy_69
  by_cases t_7_5 : k = 5
  · skip
    refine lv_tableIn (tgt := 49) hx hb dX9_speaksBy_7 (by rw [t_7_5]; decide) (by rw [t_7_5]; decide) (by rw [t_7_5]; rfl) (by decide) ?_
    refine lv_iconst (v := 0) hx hb dX9_speaksBy_49 (by decide) ?_
    exact r_iret cx hw (⟨by simp [spB, t_7_5, t_7_1, t_7_2, t_7_3, t_7_4], rfl⟩) (Nat.le_of_ble_eq_true rfl) (Nat.le_of_ble_eq_true rfl) dX9_speaksBy_50
  refine lv_tableOut (tgt := 70) hx hb dX9_speaksBy_7 (by have : ¬ (k).toInt = 1 := lv_neT t_7_1 rfl; have : ¬ (k).toInt = 2 := lv_neT t_7_2 rfl; have : ¬ (k).toInt = 3 := lv_neT t_7_3 rfl; have : ¬ (k).toInt = 4 := lv_neT t_7_4 rfl; have : ¬ (k).toInt = 5 := lv_neT t_7_5 rfl; omega) (by decide) ?_
  refine lv_iload_n hx hb dX9_speaksBy_70 rfl (lv_at hl 0 rfl) ?_
  exact r_iret cx hw (⟨by simp [spB, t_7_1, t_7_2, t_7_3, t_7_4, t_7_5], rfl⟩) (Nat.le_of_ble_eq_true rfl) (Nat.le_of_ble_eq_true rfl) dX9_speaksBy_71

set_option maxHeartbeats 4000000 in
set_option maxRecDepth 100000 in
theorem kX9_drinksBy (l : Launch) (hl9 : l.stackTraces = false) (g : GG) (k : Int32) : MC l yX9_drinksBy cX9_drinksBy 1 (some .int) 0 0 0 0 g [.int k] [] (rt (some (.int (drB k))) []) (noX) := by
  refine MC.of (by decide) (Nat.le_of_ble_eq_true rfl) ?_
  intro p9 e9 s9 m9 args9 below9 meth9 c9 A9 ls cx htab hw hl
  have hx := cx.1
  have hb := cx.2.1
  have hts := cx.2.2.2.2.1
  have hK := cx.2.2.2.2.2.2.2.1
  have hl : lv_has ls 1 [(0, .int k)] := hl
  refine lv_iload_n hx hb dX9_drinksBy_0 rfl (lv_at hl 0 rfl) ?_
  by_cases t_1_1 : k = 1
  · skip
    refine lv_tableIn (tgt := 36) hx hb dX9_drinksBy_1 (by rw [t_1_1]; decide) (by rw [t_1_1]; decide) (by rw [t_1_1]; rfl) (by decide) ?_
    refine lv_iconst (v := 2) hx hb dX9_drinksBy_36 (by decide) ?_
    exact r_iret cx hw (⟨by simp [drB, t_1_1], rfl⟩) (Nat.le_of_ble_eq_true rfl) (Nat.le_of_ble_eq_true rfl) dX9_drinksBy_37
  by_cases t_1_2 : k = 2
  · skip
    refine lv_tableIn (tgt := 38) hx hb dX9_drinksBy_1 (by rw [t_1_2]; decide) (by rw [t_1_2]; decide) (by rw [t_1_2]; rfl) (by decide) ?_
    refine lv_iconst (v := 4) hx hb dX9_drinksBy_38 (by decide) ?_
    exact r_iret cx hw (⟨by simp [drB, t_1_2, t_1_1], rfl⟩) (Nat.le_of_ble_eq_true rfl) (Nat.le_of_ble_eq_true rfl) dX9_drinksBy_39
  by_cases t_1_3 : k = 3
  · skip
    refine lv_tableIn (tgt := 36) hx hb dX9_drinksBy_1 (by rw [t_1_3]; decide) (by rw [t_1_3]; decide) (by rw [t_1_3]; rfl) (by decide) ?_
    refine lv_iconst (v := 2) hx hb dX9_drinksBy_36 (by decide) ?_
    exact r_iret cx hw (⟨by simp [drB, t_1_3, t_1_1, t_1_2], rfl⟩) (Nat.le_of_ble_eq_true rfl) (Nat.le_of_ble_eq_true rfl) dX9_drinksBy_37
  by_cases t_1_4 : k = 4
  · skip
    refine lv_tableIn (tgt := 40) hx hb dX9_drinksBy_1 (by rw [t_1_4]; decide) (by rw [t_1_4]; decide) (by rw [t_1_4]; rfl) (by decide) ?_
    refine lv_iconst (v := 1) hx hb dX9_drinksBy_40 (by decide) ?_
    exact r_iret cx hw (⟨by simp [drB, t_1_4, t_1_1, t_1_2, t_1_3], rfl⟩) (Nat.le_of_ble_eq_true rfl) (Nat.le_of_ble_eq_true rfl) dX9_drinksBy_41
  by_cases t_1_5 : k = 5
  · skip
    refine lv_tableIn (tgt := 38) hx hb dX9_drinksBy_1 (by rw [t_1_5]; decide) (by rw [t_1_5]; decide) (by rw [t_1_5]; rfl) (by decide) ?_
    refine lv_iconst (v := 4) hx hb dX9_drinksBy_38 (by decide) ?_
    exact r_iret cx hw (⟨by simp [drB, t_1_5, t_1_1, t_1_2, t_1_3, t_1_4], rfl⟩) (Nat.le_of_ble_eq_true rfl) (Nat.le_of_ble_eq_true rfl) dX9_drinksBy_39
  refine lv_tableOut (tgt := 42) hx hb dX9_drinksBy_1 (by have : ¬ (k).toInt = 1 := lv_neT t_1_1 rfl; have : ¬ (k).toInt = 2 := lv_neT t_1_2 rfl; have : ¬ (k).toInt = 3 := lv_neT t_1_3 rfl; have : ¬ (k).toInt = 4 := lv_neT t_1_4 rfl; have : ¬ (k).toInt = 5 := lv_neT t_1_5 rfl; omega) (by decide) ?_
  refine lv_iconst (v := 3) hx hb dX9_drinksBy_42 (by decide) ?_
  exact r_iret cx hw (⟨by simp [drB, t_1_1, t_1_2, t_1_3, t_1_4, t_1_5], rfl⟩) (Nat.le_of_ble_eq_true rfl) (Nat.le_of_ble_eq_true rfl) dX9_drinksBy_43

set_option maxHeartbeats 4000000 in
set_option maxRecDepth 100000 in
theorem kX9_bits (l : Launch) (hl9 : l.stackTraces = false) (g : GG) (b : Int32) : MC l yX9_bits cX9_bits 3 (some .int) 0 0 0 0 g [.int b] [] (rt (some (.int (bitsF b))) []) (noX) := by
  refine MC.of (by decide) (Nat.le_of_ble_eq_true rfl) ?_
  intro p9 e9 s9 m9 args9 below9 meth9 c9 A9 ls cx htab hw hl
  have hx := cx.1
  have hb := cx.2.1
  have hts := cx.2.2.2.2.1
  have hK := cx.2.2.2.2.2.2.2.1
  have hl : lv_has ls 3 [(0, .int b)] := hl
  have J4 : ∀ (n9 j : Nat) , j ≤ 6 → 6 < n9 + j → ∀ (H : Heap) (locs : List Loc) (ls : Array Slot), WS g A9 s9.heap ([]) H locs → lv_has ls 3 [(0, .int b), (1, .int (itr (fun k n => n + ((b >>> (nI k &&& 31)) &&& 1)) j 0)), (2, .int (nI j))] → W p9 l e9 (rmC 0 0 0 0) s9 m9 args9 below9 meth9 c9 H locs 0 0 (vx_MQ below9 (PostA g A9 (rt (some (.int (bitsF b))) [])) (PxA g A9 (pxR (noX))) args9 s9 0 0 A9) (F0 m9 4 ls []) := by
    intro n9
    induction n9 with
    | zero => intro j  hj hk9; exact absurd hk9 (by omega)
    | succ n9 ih_J4 =>
      intro j  hj hk9  H locs ls hw hl
      refine lv_iload_n hx hb dX9_bits_4 rfl (lv_at hl 2 rfl) ?_
      refine lv_bipush (v := 6) hx hb dX9_bits_5 (by decide) ?_
      refine lv_icmp_ge (tgt := 24) hx hb dX9_bits_7 (by decide) (fun c_7 => ?_) (fun c_7 => ?_)
      · skip
        have c_7 : 6 ≤ j := (nI_leI (a := 6) (b := j) (by omega) (by omega)).mp c_7
        refine lv_iload_n hx hb dX9_bits_24 rfl (lv_at hl 1 rfl) ?_
        exact r_iret cx hw (⟨by rw [show j = 6 by omega]; rfl, rfl⟩) (Nat.le_of_ble_eq_true rfl) (Nat.le_of_ble_eq_true rfl) dX9_bits_25
      · skip
        have c_7 : j < 6 := Nat.not_le.mp (fun h9 => c_7 ((nI_leI (a := 6) (b := j) (by omega) (by omega)).mpr h9))
        refine lv_iload_n hx hb dX9_bits_10 rfl (lv_at hl 1 rfl) ?_
        refine lv_iload_n hx hb dX9_bits_11 rfl (lv_at hl 0 rfl) ?_
        refine lv_iload_n hx hb dX9_bits_12 rfl (lv_at hl 2 rfl) ?_
        refine lv_ishr hx hb dX9_bits_13 ?_
        refine lv_iconst (v := 1) hx hb dX9_bits_14 (by decide) ?_
        refine lv_iand hx hb dX9_bits_15 ?_
        refine lv_iadd hx hb dX9_bits_16 ?_
        refine lv_istore_n (lv' := [(1, .int ((itr (fun k n => n + ((b >>> (nI k &&& 31)) &&& 1)) j 0) + ((b >>> ((nI j) &&& 31)) &&& 1))), (0, .int b), (2, .int (nI j))]) hx hb dX9_bits_17 rfl hl (by decide) rfl (fun ls hl => ?_)
        refine lv_iinc (v := nI (j + 1)) (lv' := [(2, .int (nI (j + 1))), (1, .int ((itr (fun k n => n + ((b >>> (nI k &&& 31)) &&& 1)) j 0) + ((b >>> ((nI j) &&& 31)) &&& 1))), (0, .int b)]) hx hb dX9_bits_18 hl (k := 2) rfl (nI_1 j) (by decide) rfl (fun ls hl => ?_)
        refine lv_goto (tgt := 4) hx hb dX9_bits_21 (by decide) ?_
        exact ih_J4 (j + 1)  (by omega) (by omega)  _ _ _ (hw) (lv_sub hl [2, 1, 0] rfl)
  refine lv_iconst (v := 0) hx hb dX9_bits_0 (by decide) ?_
  refine lv_istore_n (lv' := [(1, .int 0), (0, .int b)]) hx hb dX9_bits_1 rfl hl (by decide) rfl (fun ls hl => ?_)
  refine lv_iconst (v := 0) hx hb dX9_bits_2 (by decide) ?_
  refine lv_istore_n (lv' := [(2, .int 0), (1, .int 0), (0, .int b)]) hx hb dX9_bits_3 rfl hl (by decide) rfl (fun ls hl => ?_)
  exact J4 (6 + 1) 0  (by omega) (by omega)  _ _ _ (hw) (lv_sub hl [2, 1, 0] rfl)

set_option maxHeartbeats 4000000 in
set_option maxRecDepth 100000 in
theorem kX9_speaksIn (l : Launch) (hl9 : l.stackTraces = false) (g : GG) (h : Nat) (r : Nat → Int32) (p : Nat) (hp : p < 6) : MC l yX9_speaksIn cX9_speaksIn 2 (some .int) 2 43 0 0 g [.ref h, .int (nI p)] [(h, .inl (g.2 0, 47, .inl r))] (rt (some (.int (spI r p))) ([(h, .inl (g.2 0, 47, .inl r))])) (noX) := by
  refine MC.of (by decide) (Nat.le_of_ble_eq_true rfl) ?_
  intro p9 e9 s9 m9 args9 below9 meth9 c9 A9 ls cx htab hw hl
  have hx := cx.1
  have hb := cx.2.1
  have hts := cx.2.2.2.2.1
  have hK := cx.2.2.2.2.2.2.2.1
  have hl : lv_has ls 2 [(0, .ref h), (1, .int (nI p))] := hl
  refine lv_aload_n hx hb dX9_speaksIn_0 rfl (lv_at hl 0 rfl) ?_
  refine lv_iconst (v := 4) hx hb dX9_speaksIn_1 (by decide) ?_
  refine r_iald cx hw 0 rfl 4 rfl (by omega) (Nat.le_of_ble_eq_true rfl) dX9_speaksIn_2 ?_
  refine lv_iload_n hx hb dX9_speaksIn_3 rfl (lv_at hl 1 rfl) ?_
  refine r_det (r_S cx hw (kX9_has l hl9 g (r 4) (nI p)) (va_cwS 2 hts (lw_S q1273 q1274 q94 q1275) rfl rfl rfl (by decide +kernel) ⟨Nat.le_of_ble_eq_true rfl, Nat.le_of_ble_eq_true rfl⟩) [] rfl rfl rfl hl.1 rfl (Nat.le_of_ble_eq_true rfl) dX9_speaksIn_4 ⟨Nat.le_of_ble_eq_true rfl, Nat.le_of_ble_eq_true rfl⟩) cx hw [] rfl rfl rfl (ws' := [(h, .inl (g.2 0, 47, .inl r))]) (rfl) (fun H locs hw => ?_)
  refine W.eq (g2 := F0 m9 7 ls [.int (bI (hsB (r 4) (nI p)))]) rfl ?_
  refine lv_if_eq (tgt := 15) hx hb dX9_speaksIn_7 (by decide) (fun c_7 => ?_) (fun c_7 => ?_)
  · skip
    have c_7 := bI_e0 c_7
    refine lv_aload_n hx hb dX9_speaksIn_15 rfl (lv_at hl 0 rfl) ?_
    refine lv_iload_n hx hb dX9_speaksIn_16 rfl (lv_at hl 1 rfl) ?_
    refine lv_iconst (v := 0) hx hb dX9_speaksIn_17 (by decide) ?_
    refine r_det (r_S cx hw (kX9_of l hl9 g p 0) (va_cwS 2 hts (lw_S q1254 q1255 q94 q1256) rfl rfl rfl (by decide +kernel) ⟨Nat.le_of_ble_eq_true rfl, Nat.le_of_ble_eq_true rfl⟩) [] rfl rfl rfl hl.1 rfl (Nat.le_of_ble_eq_true rfl) dX9_speaksIn_18 ⟨Nat.le_of_ble_eq_true rfl, Nat.le_of_ble_eq_true rfl⟩) cx hw [] rfl rfl rfl (ws' := [(h, .inl (g.2 0, 47, .inl r))]) (rfl) (fun H locs hw => ?_)
    refine W.eq (g2 := F0 m9 21 ls [.int (nI (5 + 7 * p)), .ref h]) rfl ?_
    refine r_iald cx hw 0 rfl (5 + 7 * p) rfl (by omega) (Nat.le_of_ble_eq_true rfl) dX9_speaksIn_21 ?_
    refine lv_aload_n hx hb dX9_speaksIn_22 rfl (lv_at hl 0 rfl) ?_
    refine lv_iload_n hx hb dX9_speaksIn_23 rfl (lv_at hl 1 rfl) ?_
    refine lv_iconst (v := 1) hx hb dX9_speaksIn_24 (by decide) ?_
    refine r_det (r_S cx hw (kX9_of l hl9 g p 1) (va_cwS 2 hts (lw_S q1254 q1255 q94 q1256) rfl rfl rfl (by decide +kernel) ⟨Nat.le_of_ble_eq_true rfl, Nat.le_of_ble_eq_true rfl⟩) [] rfl rfl rfl hl.1 rfl (Nat.le_of_ble_eq_true rfl) dX9_speaksIn_25 ⟨Nat.le_of_ble_eq_true rfl, Nat.le_of_ble_eq_true rfl⟩) cx hw [] rfl rfl rfl (ws' := [(h, .inl (g.2 0, 47, .inl r))]) (rfl) (fun H locs hw => ?_)
    refine W.eq (g2 := F0 m9 28 ls [.int (nI (5 + 7 * p + 1)), .ref h, .int (r (5 + 7 * p))]) rfl ?_
    refine r_iald cx hw 0 rfl (5 + 7 * p + 1) rfl (by omega) (Nat.le_of_ble_eq_true rfl) dX9_speaksIn_28 ?_
    refine r_det (r_S cx hw (kX9_speaksBy l hl9 g (r (5 + 7 * p)) (r (5 + 7 * p + 1))) (va_cwS 2 hts (lw_S q1276 q1277 q94 q1278) rfl rfl rfl (by decide +kernel) ⟨Nat.le_of_ble_eq_true rfl, Nat.le_of_ble_eq_true rfl⟩) [] rfl rfl rfl hl.1 rfl (Nat.le_of_ble_eq_true rfl) dX9_speaksIn_29 ⟨Nat.le_of_ble_eq_true rfl, Nat.le_of_ble_eq_true rfl⟩) cx hw [] rfl rfl rfl (ws' := [(h, .inl (g.2 0, 47, .inl r))]) (rfl) (fun H locs hw => ?_)
    refine W.eq (g2 := F0 m9 32 ls [.int (spB (r (5 + 7 * p)) (r (5 + 7 * p + 1)))]) rfl ?_
    exact r_iret cx hw (⟨by simp [spI, c_7], rfl⟩) (Nat.le_of_ble_eq_true rfl) (Nat.le_of_ble_eq_true rfl) dX9_speaksIn_32
  · skip
    have c_7 := bI_n0 c_7
    refine lv_bipush (v := 12) hx hb dX9_speaksIn_10 (by decide) ?_
    refine lv_goto (tgt := 32) hx hb dX9_speaksIn_12 (by decide) ?_
    exact r_iret cx hw (⟨by simp [spI, c_7], rfl⟩) (Nat.le_of_ble_eq_true rfl) (Nat.le_of_ble_eq_true rfl) dX9_speaksIn_32

set_option maxHeartbeats 4000000 in
set_option maxRecDepth 100000 in
theorem kX9_mayDraw (l : Launch) (hl9 : l.stackTraces = false) (g : GG) (h : Nat) (r : Nat → Int32) (p : Nat) (hp : p < 6) : MC l yX9_mayDraw cX9_mayDraw 2 (some .boolean) 1 21 0 0 g [.ref h, .int (nI p)] [(h, .inl (g.2 0, 47, .inl r))] (rt (some (.int (bI (mayD r p)))) ([(h, .inl (g.2 0, 47, .inl r))])) (noX) := by
  refine MC.of (by decide) (Nat.le_of_ble_eq_true rfl) ?_
  intro p9 e9 s9 m9 args9 below9 meth9 c9 A9 ls cx htab hw hl
  have hx := cx.1
  have hb := cx.2.1
  have hts := cx.2.2.2.2.1
  have hK := cx.2.2.2.2.2.2.2.1
  have hl : lv_has ls 2 [(0, .ref h), (1, .int (nI p))] := hl
  refine lv_aload_n hx hb dX9_mayDraw_0 rfl (lv_at hl 0 rfl) ?_
  refine lv_iload_n hx hb dX9_mayDraw_1 rfl (lv_at hl 1 rfl) ?_
  refine lv_iconst (v := 5) hx hb dX9_mayDraw_2 (by decide) ?_
  refine r_det (r_S cx hw (kX9_of l hl9 g p 5) (va_cwS 2 hts (lw_S q1254 q1255 q94 q1256) rfl rfl rfl (by decide +kernel) ⟨Nat.le_of_ble_eq_true rfl, Nat.le_of_ble_eq_true rfl⟩) [] rfl rfl rfl hl.1 rfl (Nat.le_of_ble_eq_true rfl) dX9_mayDraw_3 ⟨Nat.le_of_ble_eq_true rfl, Nat.le_of_ble_eq_true rfl⟩) cx hw [] rfl rfl rfl (ws' := [(h, .inl (g.2 0, 47, .inl r))]) (rfl) (fun H locs hw => ?_)
  refine W.eq (g2 := F0 m9 6 ls [.int (nI (5 + 7 * p + 5)), .ref h]) rfl ?_
  refine r_iald cx hw 0 rfl (5 + 7 * p + 5) rfl (by omega) (Nat.le_of_ble_eq_true rfl) dX9_mayDraw_6 ?_
  refine lv_if_ne (tgt := 57) hx hb dX9_mayDraw_7 (by decide) (fun c_7 => ?_) (fun c_7 => ?_)
  · skip
    refine lv_iconst (v := 0) hx hb dX9_mayDraw_57 (by decide) ?_
    exact r_zret (by decide) cx hw (⟨by simp [mayD, bI, c_7], rfl⟩) (Nat.le_of_ble_eq_true rfl) (Nat.le_of_ble_eq_true rfl) dX9_mayDraw_58
  · skip
    refine lv_aload_n hx hb dX9_mayDraw_10 rfl (lv_at hl 0 rfl) ?_
    refine lv_iload_n hx hb dX9_mayDraw_11 rfl (lv_at hl 1 rfl) ?_
    refine lv_iconst (v := 3) hx hb dX9_mayDraw_12 (by decide) ?_
    refine r_det (r_S cx hw (kX9_of l hl9 g p 3) (va_cwS 2 hts (lw_S q1254 q1255 q94 q1256) rfl rfl rfl (by decide +kernel) ⟨Nat.le_of_ble_eq_true rfl, Nat.le_of_ble_eq_true rfl⟩) [] rfl rfl rfl hl.1 rfl (Nat.le_of_ble_eq_true rfl) dX9_mayDraw_13 ⟨Nat.le_of_ble_eq_true rfl, Nat.le_of_ble_eq_true rfl⟩) cx hw [] rfl rfl rfl (ws' := [(h, .inl (g.2 0, 47, .inl r))]) (rfl) (fun H locs hw => ?_)
    refine W.eq (g2 := F0 m9 16 ls [.int (nI (5 + 7 * p + 3)), .ref h]) rfl ?_
    refine r_iald cx hw 0 rfl (5 + 7 * p + 3) rfl (by omega) (Nat.le_of_ble_eq_true rfl) dX9_mayDraw_16 ?_
    refine lv_bipush (v := 20) hx hb dX9_mayDraw_17 (by decide) ?_
    refine lv_icmp_ge (tgt := 57) hx hb dX9_mayDraw_19 (by decide) (fun c_19 => ?_) (fun c_19 => ?_)
    · skip
      have c_19N := Int32.not_lt.mpr c_19
      refine lv_iconst (v := 0) hx hb dX9_mayDraw_57 (by decide) ?_
      exact r_zret (by decide) cx hw (⟨by simp [mayD, bI, c_7, c_19, c_19N], rfl⟩) (Nat.le_of_ble_eq_true rfl) (Nat.le_of_ble_eq_true rfl) dX9_mayDraw_58
    · skip
      have c_19N := Int32.not_le.mp c_19
      refine lv_aload_n hx hb dX9_mayDraw_22 rfl (lv_at hl 0 rfl) ?_
      refine lv_iload_n hx hb dX9_mayDraw_23 rfl (lv_at hl 1 rfl) ?_
      refine lv_iconst (v := 4) hx hb dX9_mayDraw_24 (by decide) ?_
      refine r_det (r_S cx hw (kX9_of l hl9 g p 4) (va_cwS 2 hts (lw_S q1254 q1255 q94 q1256) rfl rfl rfl (by decide +kernel) ⟨Nat.le_of_ble_eq_true rfl, Nat.le_of_ble_eq_true rfl⟩) [] rfl rfl rfl hl.1 rfl (Nat.le_of_ble_eq_true rfl) dX9_mayDraw_25 ⟨Nat.le_of_ble_eq_true rfl, Nat.le_of_ble_eq_true rfl⟩) cx hw [] rfl rfl rfl (ws' := [(h, .inl (g.2 0, 47, .inl r))]) (rfl) (fun H locs hw => ?_)
      refine W.eq (g2 := F0 m9 28 ls [.int (nI (5 + 7 * p + 4)), .ref h]) rfl ?_
      refine r_iald cx hw 0 rfl (5 + 7 * p + 4) rfl (by omega) (Nat.le_of_ble_eq_true rfl) dX9_mayDraw_28 ?_
      refine lv_if_eq (tgt := 53) hx hb dX9_mayDraw_29 (by decide) (fun c_29 => ?_) (fun c_29 => ?_)
      · skip
        refine lv_iconst (v := 1) hx hb dX9_mayDraw_53 (by decide) ?_
        refine lv_goto (tgt := 58) hx hb dX9_mayDraw_54 (by decide) ?_
        exact r_zret (by decide) cx hw (⟨by simp [mayD, bI, c_7, c_19, c_19N, c_29], rfl⟩) (Nat.le_of_ble_eq_true rfl) (Nat.le_of_ble_eq_true rfl) dX9_mayDraw_58
      · skip
        refine lv_aload_n hx hb dX9_mayDraw_32 rfl (lv_at hl 0 rfl) ?_
        refine lv_iload_n hx hb dX9_mayDraw_33 rfl (lv_at hl 1 rfl) ?_
        refine lv_iconst (v := 0) hx hb dX9_mayDraw_34 (by decide) ?_
        refine r_det (r_S cx hw (kX9_of l hl9 g p 0) (va_cwS 2 hts (lw_S q1254 q1255 q94 q1256) rfl rfl rfl (by decide +kernel) ⟨Nat.le_of_ble_eq_true rfl, Nat.le_of_ble_eq_true rfl⟩) [] rfl rfl rfl hl.1 rfl (Nat.le_of_ble_eq_true rfl) dX9_mayDraw_35 ⟨Nat.le_of_ble_eq_true rfl, Nat.le_of_ble_eq_true rfl⟩) cx hw [] rfl rfl rfl (ws' := [(h, .inl (g.2 0, 47, .inl r))]) (rfl) (fun H locs hw => ?_)
        refine W.eq (g2 := F0 m9 38 ls [.int (nI (5 + 7 * p)), .ref h]) rfl ?_
        refine r_iald cx hw 0 rfl (5 + 7 * p) rfl (by omega) (Nat.le_of_ble_eq_true rfl) dX9_mayDraw_38 ?_
        refine lv_iconst (v := 5) hx hb dX9_mayDraw_39 (by decide) ?_
        refine lv_icmp_ne (tgt := 57) hx hb dX9_mayDraw_40 (by decide) (fun c_40 => ?_) (fun c_40 => ?_)
        · skip
          refine lv_iconst (v := 0) hx hb dX9_mayDraw_57 (by decide) ?_
          exact r_zret (by decide) cx hw (⟨by simp [mayD, bI, c_7, c_19, c_19N, c_29, c_40], rfl⟩) (Nat.le_of_ble_eq_true rfl) (Nat.le_of_ble_eq_true rfl) dX9_mayDraw_58
        · skip
          refine lv_aload_n hx hb dX9_mayDraw_43 rfl (lv_at hl 0 rfl) ?_
          refine lv_iconst (v := 4) hx hb dX9_mayDraw_44 (by decide) ?_
          refine r_iald cx hw 0 rfl 4 rfl (by omega) (Nat.le_of_ble_eq_true rfl) dX9_mayDraw_45 ?_
          refine lv_iload_n hx hb dX9_mayDraw_46 rfl (lv_at hl 1 rfl) ?_
          refine r_det (r_S cx hw (kX9_has l hl9 g (r 4) (nI p)) (va_cwS 2 hts (lw_S q1273 q1274 q94 q1275) rfl rfl rfl (by decide +kernel) ⟨Nat.le_of_ble_eq_true rfl, Nat.le_of_ble_eq_true rfl⟩) [] rfl rfl rfl hl.1 rfl (Nat.le_of_ble_eq_true rfl) dX9_mayDraw_47 ⟨Nat.le_of_ble_eq_true rfl, Nat.le_of_ble_eq_true rfl⟩) cx hw [] rfl rfl rfl (ws' := [(h, .inl (g.2 0, 47, .inl r))]) (rfl) (fun H locs hw => ?_)
          refine W.eq (g2 := F0 m9 50 ls [.int (bI (hsB (r 4) (nI p)))]) rfl ?_
          refine lv_if_ne (tgt := 57) hx hb dX9_mayDraw_50 (by decide) (fun c_50 => ?_) (fun c_50 => ?_)
          · skip
            have c_50 := bI_n0 c_50
            refine lv_iconst (v := 0) hx hb dX9_mayDraw_57 (by decide) ?_
            exact r_zret (by decide) cx hw (⟨by simp [mayD, bI, c_7, c_19, c_19N, c_29, c_40, c_50], rfl⟩) (Nat.le_of_ble_eq_true rfl) (Nat.le_of_ble_eq_true rfl) dX9_mayDraw_58
          · skip
            have c_50 := bI_e0 c_50
            refine lv_iconst (v := 1) hx hb dX9_mayDraw_53 (by decide) ?_
            refine lv_goto (tgt := 58) hx hb dX9_mayDraw_54 (by decide) ?_
            exact r_zret (by decide) cx hw (⟨by simp [mayD, bI, c_7, c_19, c_19N, c_29, c_40, c_50], rfl⟩) (Nat.le_of_ble_eq_true rfl) (Nat.le_of_ble_eq_true rfl) dX9_mayDraw_58

set_option maxHeartbeats 4000000 in
set_option maxRecDepth 100000 in
theorem kX9_draws (l : Launch) (hl9 : l.stackTraces = false) (g : GG) (h : Nat) (r : Nat → Int32) (p : Nat) (hp : p < 6) (hf : frN r p < 6) (hf2 : r (5 + 7 * p + 6) = nI (frN r p)) : MC l yX9_draws cX9_draws 4 none 2 42 0 0 g [.ref h, .int (nI p)] [(h, .inl (g.2 0, 47, .inl r))] (rt none ([(h, .inl (g.2 0, 47, .inl (drawF r p)))])) (noX) := by
  refine MC.of (by decide) (Nat.le_of_ble_eq_true rfl) ?_
  intro p9 e9 s9 m9 args9 below9 meth9 c9 A9 ls cx htab hw hl
  have hx := cx.1
  have hb := cx.2.1
  have hts := cx.2.2.2.2.1
  have hK := cx.2.2.2.2.2.2.2.1
  have hl : lv_has ls 4 [(0, .ref h), (1, .int (nI p))] := hl
  have hfB : drwB r p (5 + 7 * p + 6) = nI (frN r p) := (drwB_k r p (kpt_fr p)).trans hf2
  have J53 : mayD r p = true → ∀ (H : Heap) (locs : List Loc) (ls : Array Slot), WS g A9 s9.heap ([(h, .inl (g.2 0, 47, .inl (drwB r p)))]) H locs → lv_has ls 4 [(0, .ref h), (1, .int (nI p)), (2, .int (leI (r (5 + 7 * p + 2)) (r 2)))] → W p9 l e9 (rmC 2 42 0 0) s9 m9 args9 below9 meth9 c9 H locs 0 0 (vx_MQ below9 (PostA g A9 (rt none ([(h, .inl (g.2 0, 47, .inl (drawF r p)))]))) (PxA g A9 (pxR (noX))) args9 s9 0 0 A9) (F0 m9 53 ls []) := by
    intro hm H locs ls hw hl
    refine lv_aload_n hx hb dX9_draws_53 rfl (lv_at hl 0 rfl) ?_
    refine lv_iload_n hx hb dX9_draws_54 rfl (lv_at hl 1 rfl) ?_
    refine lv_bipush (v := 6) hx hb dX9_draws_55 (by decide) ?_
    refine r_det (r_S cx hw (kX9_of l hl9 g p 6) (va_cwS 2 hts (lw_S q1254 q1255 q94 q1256) rfl rfl rfl (by decide +kernel) ⟨Nat.le_of_ble_eq_true rfl, Nat.le_of_ble_eq_true rfl⟩) [] rfl rfl rfl hl.1 rfl (Nat.le_of_ble_eq_true rfl) dX9_draws_57 ⟨Nat.le_of_ble_eq_true rfl, Nat.le_of_ble_eq_true rfl⟩) cx hw [] rfl rfl rfl (ws' := [(h, .inl (g.2 0, 47, .inl (drwB r p)))]) (rfl) (fun H locs hw => ?_)
    refine W.eq (g2 := F0 m9 60 ls [.int (nI (5 + 7 * p + 6)), .ref h]) rfl ?_
    refine r_iald cx hw 0 rfl (5 + 7 * p + 6) rfl (by omega) (Nat.le_of_ble_eq_true rfl) dX9_draws_60 ?_
    refine r_topi (x' := nI (frN r p)) (hfB) ?_
    refine lv_istore_n (lv' := [(3, .int (nI (frN r p))), (0, .ref h), (1, .int (nI p)), (2, .int (leI (r (5 + 7 * p + 2)) (r 2)))]) hx hb dX9_draws_61 rfl hl (by decide) rfl (fun ls hl => ?_)
    refine lv_iload_n hx hb dX9_draws_62 rfl (lv_at hl 0 rfl) ?_
    refine lv_iload_n hx hb dX9_draws_63 rfl (lv_at hl 2 rfl) ?_
    refine lv_icmp_eq (tgt := 101) hx hb dX9_draws_64 (by decide) (fun c_64 => ?_) (fun c_64 => ?_)
    · skip
      exact r_vret cx hw (⟨rfl, by rw [drawF, if_pos hm, if_pos (by simp [givN, c_64])]⟩) (Nat.le_of_ble_eq_true rfl) (Nat.le_of_ble_eq_true rfl) dX9_draws_101
    · skip
      refine lv_iload_n hx hb dX9_draws_67 rfl (lv_at hl 0 rfl) ?_
      refine lv_aload_n hx hb dX9_draws_68 rfl (lv_at hl 1 rfl) ?_
      refine lv_iconst (v := 0) hx hb dX9_draws_69 (by decide) ?_
      refine r_iald cx hw 0 rfl 0 rfl (by omega) (Nat.le_of_ble_eq_true rfl) dX9_draws_70 ?_
      refine lv_icmp_ge (tgt := 101) hx hb dX9_draws_71 (by decide) (fun c_71 => ?_) (fun c_71 => ?_)
      · skip
        have c_71N := Int32.not_lt.mpr c_71
        exact r_vret cx hw (⟨rfl, by rw [drawF, if_pos hm, if_pos (by simp [givN, c_64, c_71, c_71N])]⟩) (Nat.le_of_ble_eq_true rfl) (Nat.le_of_ble_eq_true rfl) dX9_draws_101
      · skip
        have c_71N := Int32.not_le.mp c_71
        refine lv_aload_n hx hb dX9_draws_74 rfl (lv_at hl 1 rfl) ?_
        refine lv_iload_n hx hb dX9_draws_75 rfl (lv_at hl 0 rfl) ?_
        refine lv_iconst (v := 4) hx hb dX9_draws_76 (by decide) ?_
        refine r_det (r_S cx hw (kX9_of l hl9 g (frN r p) 4) (va_cwS 2 hts (lw_S q1254 q1255 q94 q1256) rfl rfl rfl (by decide +kernel) ⟨Nat.le_of_ble_eq_true rfl, Nat.le_of_ble_eq_true rfl⟩) [] rfl rfl rfl hl.1 rfl (Nat.le_of_ble_eq_true rfl) dX9_draws_77 ⟨Nat.le_of_ble_eq_true rfl, Nat.le_of_ble_eq_true rfl⟩) cx hw [] rfl rfl rfl (ws' := [(h, .inl (g.2 0, 47, .inl (drwB r p)))]) (rfl) (fun H locs hw => ?_)
        refine W.eq (g2 := F0 m9 80 ls [.int (nI (5 + 7 * (frN r p) + 4)), .ref h]) rfl ?_
        refine r_iald cx hw 0 rfl (5 + 7 * (frN r p) + 4) rfl (by omega) (Nat.le_of_ble_eq_true rfl) dX9_draws_80 ?_
        refine lv_if_eq (tgt := 101) hx hb dX9_draws_81 (by decide) (fun c_81 => ?_) (fun c_81 => ?_)
        · skip
          exact r_vret cx hw (⟨rfl, by rw [drawF, if_pos hm, if_pos (by simp [givN, c_64, c_71, c_71N, c_81])]⟩) (Nat.le_of_ble_eq_true rfl) (Nat.le_of_ble_eq_true rfl) dX9_draws_101
        · skip
          refine lv_aload_n hx hb dX9_draws_84 rfl (lv_at hl 1 rfl) ?_
          refine lv_iload_n hx hb dX9_draws_85 rfl (lv_at hl 0 rfl) ?_
          refine lv_iconst (v := 3) hx hb dX9_draws_86 (by decide) ?_
          refine r_det (r_S cx hw (kX9_of l hl9 g (frN r p) 3) (va_cwS 2 hts (lw_S q1254 q1255 q94 q1256) rfl rfl rfl (by decide +kernel) ⟨Nat.le_of_ble_eq_true rfl, Nat.le_of_ble_eq_true rfl⟩) [] rfl rfl rfl hl.1 rfl (Nat.le_of_ble_eq_true rfl) dX9_draws_87 ⟨Nat.le_of_ble_eq_true rfl, Nat.le_of_ble_eq_true rfl⟩) cx hw [] rfl rfl rfl (ws' := [(h, .inl (g.2 0, 47, .inl (drwB r p)))]) (rfl) (fun H locs hw => ?_)
          refine W.eq (g2 := F0 m9 90 ls [.int (nI (5 + 7 * (frN r p) + 3)), .ref h]) rfl ?_
          refine r_iald cx hw 0 rfl (5 + 7 * (frN r p) + 3) rfl (by omega) (Nat.le_of_ble_eq_true rfl) dX9_draws_90 ?_
          refine lv_aload_n hx hb dX9_draws_91 rfl (lv_at hl 1 rfl) ?_
          refine lv_iload_n hx hb dX9_draws_92 rfl (lv_at hl 2 rfl) ?_
          refine lv_iconst (v := 3) hx hb dX9_draws_93 (by decide) ?_
          refine r_det (r_S cx hw (kX9_of l hl9 g p 3) (va_cwS 2 hts (lw_S q1254 q1255 q94 q1256) rfl rfl rfl (by decide +kernel) ⟨Nat.le_of_ble_eq_true rfl, Nat.le_of_ble_eq_true rfl⟩) [] rfl rfl rfl hl.1 rfl (Nat.le_of_ble_eq_true rfl) dX9_draws_94 ⟨Nat.le_of_ble_eq_true rfl, Nat.le_of_ble_eq_true rfl⟩) cx hw [] rfl rfl rfl (ws' := [(h, .inl (g.2 0, 47, .inl (drwB r p)))]) (rfl) (fun H locs hw => ?_)
          refine W.eq (g2 := F0 m9 97 ls [.int (nI (5 + 7 * p + 3)), .ref h, .int ((drwB r p) (5 + 7 * (frN r p) + 3))]) rfl ?_
          refine r_iald cx hw 0 rfl (5 + 7 * p + 3) rfl (by omega) (Nat.le_of_ble_eq_true rfl) dX9_draws_97 ?_
          refine lv_icmp_lt (tgt := 102) hx hb dX9_draws_98 (by decide) (fun c_98 => ?_) (fun c_98 => ?_)
          · skip
            have c_98N := Int32.not_le.mpr c_98
            refine lv_aload_n hx hb dX9_draws_102 rfl (lv_at hl 1 rfl) ?_
            refine lv_iload_n hx hb dX9_draws_103 rfl (lv_at hl 2 rfl) ?_
            refine lv_iconst (v := 3) hx hb dX9_draws_104 (by decide) ?_
            refine r_det (r_S cx hw (kX9_of l hl9 g p 3) (va_cwS 2 hts (lw_S q1254 q1255 q94 q1256) rfl rfl rfl (by decide +kernel) ⟨Nat.le_of_ble_eq_true rfl, Nat.le_of_ble_eq_true rfl⟩) [] rfl rfl rfl hl.1 rfl (Nat.le_of_ble_eq_true rfl) dX9_draws_105 ⟨Nat.le_of_ble_eq_true rfl, Nat.le_of_ble_eq_true rfl⟩) cx hw [] rfl rfl rfl (ws' := [(h, .inl (g.2 0, 47, .inl (drwB r p)))]) (rfl) (fun H locs hw => ?_)
            refine W.eq (g2 := F0 m9 108 ls [.int (nI (5 + 7 * p + 3)), .ref h]) rfl ?_
            refine lv_dup2_11 hx hb dX9_draws_108 rfl rfl ?_
            refine r_iald cx hw 0 rfl (5 + 7 * p + 3) rfl (by omega) (Nat.le_of_ble_eq_true rfl) dX9_draws_109 ?_
            refine lv_iload_n hx hb dX9_draws_110 rfl (lv_at hl 3 rfl) ?_
            refine lv_iconst (v := 2) hx hb dX9_draws_111 (by decide) ?_
            refine lv_idiv hx hb dX9_draws_112 (by decide) ?_
            refine lv_isub hx hb dX9_draws_113 ?_
            refine r_iast cx hw 0 rfl (5 + 7 * p + 3) rfl (by omega) (Nat.le_of_ble_eq_true rfl) dX9_draws_114 (fun H locs hw => ?_)
            have hw : WS g A9 s9.heap ([(h, .inl (g.2 0, 47, .inl (upd (drwB r p) (5 + 7 * p + 3) (((drwB r p) (5 + 7 * p + 3)) - ((leI (r (5 + 7 * p + 2)) (r 2)) / 2)))))]) H locs := hw
            refine lv_aload_n hx hb dX9_draws_115 rfl (lv_at hl 1 rfl) ?_
            refine lv_iload_n hx hb dX9_draws_116 rfl (lv_at hl 0 rfl) ?_
            refine lv_iconst (v := 3) hx hb dX9_draws_117 (by decide) ?_
            refine r_det (r_S cx hw (kX9_of l hl9 g (frN r p) 3) (va_cwS 2 hts (lw_S q1254 q1255 q94 q1256) rfl rfl rfl (by decide +kernel) ⟨Nat.le_of_ble_eq_true rfl, Nat.le_of_ble_eq_true rfl⟩) [] rfl rfl rfl hl.1 rfl (Nat.le_of_ble_eq_true rfl) dX9_draws_118 ⟨Nat.le_of_ble_eq_true rfl, Nat.le_of_ble_eq_true rfl⟩) cx hw [] rfl rfl rfl (ws' := [(h, .inl (g.2 0, 47, .inl (upd (drwB r p) (5 + 7 * p + 3) (((drwB r p) (5 + 7 * p + 3)) - ((leI (r (5 + 7 * p + 2)) (r 2)) / 2)))))]) (rfl) (fun H locs hw => ?_)
            refine W.eq (g2 := F0 m9 121 ls [.int (nI (5 + 7 * (frN r p) + 3)), .ref h]) rfl ?_
            refine lv_bipush (v := 99) hx hb dX9_draws_121 (by decide) ?_
            refine lv_aload_n hx hb dX9_draws_123 rfl (lv_at hl 1 rfl) ?_
            refine lv_iload_n hx hb dX9_draws_124 rfl (lv_at hl 0 rfl) ?_
            refine lv_iconst (v := 3) hx hb dX9_draws_125 (by decide) ?_
            refine r_det (r_S cx hw (kX9_of l hl9 g (frN r p) 3) (va_cwS 2 hts (lw_S q1254 q1255 q94 q1256) rfl rfl rfl (by decide +kernel) ⟨Nat.le_of_ble_eq_true rfl, Nat.le_of_ble_eq_true rfl⟩) [] rfl rfl rfl hl.1 rfl (Nat.le_of_ble_eq_true rfl) dX9_draws_126 ⟨Nat.le_of_ble_eq_true rfl, Nat.le_of_ble_eq_true rfl⟩) cx hw [] rfl rfl rfl (ws' := [(h, .inl (g.2 0, 47, .inl (upd (drwB r p) (5 + 7 * p + 3) (((drwB r p) (5 + 7 * p + 3)) - ((leI (r (5 + 7 * p + 2)) (r 2)) / 2)))))]) (rfl) (fun H locs hw => ?_)
            refine W.eq (g2 := F0 m9 129 ls [.int (nI (5 + 7 * (frN r p) + 3)), .ref h, .int 99, .int (nI (5 + 7 * (frN r p) + 3)), .ref h]) rfl ?_
            refine r_iald cx hw 0 rfl (5 + 7 * (frN r p) + 3) rfl (by omega) (Nat.le_of_ble_eq_true rfl) dX9_draws_129 ?_
            refine lv_iload_n hx hb dX9_draws_130 rfl (lv_at hl 3 rfl) ?_
            refine lv_iconst (v := 2) hx hb dX9_draws_131 (by decide) ?_
            refine lv_idiv hx hb dX9_draws_132 (by decide) ?_
            refine lv_iadd hx hb dX9_draws_133 ?_
            refine r_det (r_S cx hw (kX9_least l hl9 g 99 (((upd (drwB r p) (5 + 7 * p + 3) (((drwB r p) (5 + 7 * p + 3)) - ((leI (r (5 + 7 * p + 2)) (r 2)) / 2))) (5 + 7 * (frN r p) + 3)) + ((leI (r (5 + 7 * p + 2)) (r 2)) / 2))) (va_cwS 2 hts (lw_S q1267 q1268 q94 q1269) rfl rfl rfl (by decide +kernel) ⟨Nat.le_of_ble_eq_true rfl, Nat.le_of_ble_eq_true rfl⟩) [] rfl rfl rfl hl.1 rfl (Nat.le_of_ble_eq_true rfl) dX9_draws_134 ⟨Nat.le_of_ble_eq_true rfl, Nat.le_of_ble_eq_true rfl⟩) cx hw [] rfl rfl rfl (ws' := [(h, .inl (g.2 0, 47, .inl (upd (drwB r p) (5 + 7 * p + 3) (((drwB r p) (5 + 7 * p + 3)) - ((leI (r (5 + 7 * p + 2)) (r 2)) / 2)))))]) (rfl) (fun H locs hw => ?_)
            refine W.eq (g2 := F0 m9 137 ls [.int (leI 99 (((upd (drwB r p) (5 + 7 * p + 3) (((drwB r p) (5 + 7 * p + 3)) - ((leI (r (5 + 7 * p + 2)) (r 2)) / 2))) (5 + 7 * (frN r p) + 3)) + ((leI (r (5 + 7 * p + 2)) (r 2)) / 2))), .int (nI (5 + 7 * (frN r p) + 3)), .ref h]) rfl ?_
            refine r_iast cx hw 0 rfl (5 + 7 * (frN r p) + 3) rfl (by omega) (Nat.le_of_ble_eq_true rfl) dX9_draws_137 (fun H locs hw => ?_)
            have hw : WS g A9 s9.heap ([(h, .inl (g.2 0, 47, .inl (upd (upd (drwB r p) (5 + 7 * p + 3) (((drwB r p) (5 + 7 * p + 3)) - ((leI (r (5 + 7 * p + 2)) (r 2)) / 2))) (5 + 7 * (frN r p) + 3) (leI 99 (((upd (drwB r p) (5 + 7 * p + 3) (((drwB r p) (5 + 7 * p + 3)) - ((leI (r (5 + 7 * p + 2)) (r 2)) / 2))) (5 + 7 * (frN r p) + 3)) + ((leI (r (5 + 7 * p + 2)) (r 2)) / 2))))))]) H locs := hw
            exact r_vret cx hw (⟨rfl, by rw [drawF, if_pos hm, if_neg (by simp [givN, c_64, c_71, c_71N, c_81, c_98, c_98N])]; rfl⟩) (Nat.le_of_ble_eq_true rfl) (Nat.le_of_ble_eq_true rfl) dX9_draws_138
          · skip
            have c_98N := Int32.not_lt.mp c_98
            exact r_vret cx hw (⟨rfl, by rw [drawF, if_pos hm, if_pos (by simp [givN, c_64, c_71, c_71N, c_81, c_98, c_98N])]⟩) (Nat.le_of_ble_eq_true rfl) (Nat.le_of_ble_eq_true rfl) dX9_draws_101
  refine lv_aload_n hx hb dX9_draws_0 rfl (lv_at hl 0 rfl) ?_
  refine lv_iload_n hx hb dX9_draws_1 rfl (lv_at hl 1 rfl) ?_
  refine r_det (r_S cx hw (kX9_mayDraw l hl9 g h r p (by omega)) (va_cwS 2 hts (lw_S q1282 q1283 q94 q1284) rfl rfl rfl (by decide +kernel) ⟨Nat.le_of_ble_eq_true rfl, Nat.le_of_ble_eq_true rfl⟩) [0] rfl rfl rfl hl.1 rfl (Nat.le_of_ble_eq_true rfl) dX9_draws_2 ⟨Nat.le_of_ble_eq_true rfl, Nat.le_of_ble_eq_true rfl⟩) cx hw [0] rfl rfl rfl (ws' := [(h, .inl (g.2 0, 47, .inl r))]) (rfl) (fun H locs hw => ?_)
  refine W.eq (g2 := F0 m9 5 ls [.int (bI (mayD r p))]) rfl ?_
  refine lv_if_ne (tgt := 9) hx hb dX9_draws_5 (by decide) (fun c_5 => ?_) (fun c_5 => ?_)
  · skip
    have c_5 := bI_n0 c_5
    refine lv_aload_n hx hb dX9_draws_9 rfl (lv_at hl 0 rfl) ?_
    refine lv_iload_n hx hb dX9_draws_10 rfl (lv_at hl 1 rfl) ?_
    refine lv_iconst (v := 2) hx hb dX9_draws_11 (by decide) ?_
    refine r_det (r_S cx hw (kX9_of l hl9 g p 2) (va_cwS 2 hts (lw_S q1254 q1255 q94 q1256) rfl rfl rfl (by decide +kernel) ⟨Nat.le_of_ble_eq_true rfl, Nat.le_of_ble_eq_true rfl⟩) [] rfl rfl rfl hl.1 rfl (Nat.le_of_ble_eq_true rfl) dX9_draws_12 ⟨Nat.le_of_ble_eq_true rfl, Nat.le_of_ble_eq_true rfl⟩) cx hw [] rfl rfl rfl (ws' := [(h, .inl (g.2 0, 47, .inl r))]) (rfl) (fun H locs hw => ?_)
    refine W.eq (g2 := F0 m9 15 ls [.int (nI (5 + 7 * p + 2)), .ref h]) rfl ?_
    refine r_iald cx hw 0 rfl (5 + 7 * p + 2) rfl (by omega) (Nat.le_of_ble_eq_true rfl) dX9_draws_15 ?_
    refine lv_aload_n hx hb dX9_draws_16 rfl (lv_at hl 0 rfl) ?_
    refine lv_iconst (v := 2) hx hb dX9_draws_17 (by decide) ?_
    refine r_iald cx hw 0 rfl 2 rfl (by omega) (Nat.le_of_ble_eq_true rfl) dX9_draws_18 ?_
    refine r_det (r_S cx hw (kX9_least l hl9 g (r (5 + 7 * p + 2)) (r 2)) (va_cwS 2 hts (lw_S q1267 q1268 q94 q1269) rfl rfl rfl (by decide +kernel) ⟨Nat.le_of_ble_eq_true rfl, Nat.le_of_ble_eq_true rfl⟩) [] rfl rfl rfl hl.1 rfl (Nat.le_of_ble_eq_true rfl) dX9_draws_19 ⟨Nat.le_of_ble_eq_true rfl, Nat.le_of_ble_eq_true rfl⟩) cx hw [] rfl rfl rfl (ws' := [(h, .inl (g.2 0, 47, .inl r))]) (rfl) (fun H locs hw => ?_)
    refine W.eq (g2 := F0 m9 22 ls [.int (leI (r (5 + 7 * p + 2)) (r 2))]) rfl ?_
    refine lv_istore_n (lv' := [(2, .int (leI (r (5 + 7 * p + 2)) (r 2))), (0, .ref h), (1, .int (nI p))]) hx hb dX9_draws_22 rfl hl (by decide) rfl (fun ls hl => ?_)
    refine lv_aload_n hx hb dX9_draws_23 rfl (lv_at hl 1 rfl) ?_
    refine lv_iconst (v := 2) hx hb dX9_draws_24 (by decide) ?_
    refine lv_dup2_11 hx hb dX9_draws_25 rfl rfl ?_
    refine r_iald cx hw 0 rfl 2 rfl (by omega) (Nat.le_of_ble_eq_true rfl) dX9_draws_26 ?_
    refine lv_iload_n hx hb dX9_draws_27 rfl (lv_at hl 0 rfl) ?_
    refine lv_isub hx hb dX9_draws_28 ?_
    refine r_iast cx hw 0 rfl 2 rfl (by omega) (Nat.le_of_ble_eq_true rfl) dX9_draws_29 (fun H locs hw => ?_)
    have hw : WS g A9 s9.heap ([(h, .inl (g.2 0, 47, .inl (upd r 2 ((r 2) - (leI (r (5 + 7 * p + 2)) (r 2))))))]) H locs := hw
    refine lv_aload_n hx hb dX9_draws_30 rfl (lv_at hl 1 rfl) ?_
    refine lv_iload_n hx hb dX9_draws_31 rfl (lv_at hl 2 rfl) ?_
    refine lv_iconst (v := 3) hx hb dX9_draws_32 (by decide) ?_
    refine r_det (r_S cx hw (kX9_of l hl9 g p 3) (va_cwS 2 hts (lw_S q1254 q1255 q94 q1256) rfl rfl rfl (by decide +kernel) ⟨Nat.le_of_ble_eq_true rfl, Nat.le_of_ble_eq_true rfl⟩) [] rfl rfl rfl hl.1 rfl (Nat.le_of_ble_eq_true rfl) dX9_draws_33 ⟨Nat.le_of_ble_eq_true rfl, Nat.le_of_ble_eq_true rfl⟩) cx hw [] rfl rfl rfl (ws' := [(h, .inl (g.2 0, 47, .inl (upd r 2 ((r 2) - (leI (r (5 + 7 * p + 2)) (r 2))))))]) (rfl) (fun H locs hw => ?_)
    refine W.eq (g2 := F0 m9 36 ls [.int (nI (5 + 7 * p + 3)), .ref h]) rfl ?_
    refine lv_dup2_11 hx hb dX9_draws_36 rfl rfl ?_
    refine r_iald cx hw 0 rfl (5 + 7 * p + 3) rfl (by omega) (Nat.le_of_ble_eq_true rfl) dX9_draws_37 ?_
    refine lv_iload_n hx hb dX9_draws_38 rfl (lv_at hl 0 rfl) ?_
    refine lv_iadd hx hb dX9_draws_39 ?_
    refine r_iast cx hw 0 rfl (5 + 7 * p + 3) rfl (by omega) (Nat.le_of_ble_eq_true rfl) dX9_draws_40 (fun H locs hw => ?_)
    have hw : WS g A9 s9.heap ([(h, .inl (g.2 0, 47, .inl (upd (upd r 2 ((r 2) - (leI (r (5 + 7 * p + 2)) (r 2)))) (5 + 7 * p + 3) (((upd r 2 ((r 2) - (leI (r (5 + 7 * p + 2)) (r 2)))) (5 + 7 * p + 3)) + (leI (r (5 + 7 * p + 2)) (r 2))))))]) H locs := hw
    refine lv_iload_n hx hb dX9_draws_41 rfl (lv_at hl 0 rfl) ?_
    refine lv_if_le (tgt := 53) hx hb dX9_draws_42 (by decide) (fun c_42 => ?_) (fun c_42 => ?_)
    · skip
      have c_42N := Int32.not_lt.mpr c_42
      exact J53 c_5 _ _ _ (WS.to hw (by rw [drwB, if_neg (Int32.not_lt.mpr c_42)]; rfl)) (lv_sub hl [1, 2, 0] rfl)
    · skip
      have c_42N := Int32.not_le.mp c_42
      refine lv_aload_n hx hb dX9_draws_45 rfl (lv_at hl 1 rfl) ?_
      refine lv_iload_n hx hb dX9_draws_46 rfl (lv_at hl 2 rfl) ?_
      refine lv_iconst (v := 5) hx hb dX9_draws_47 (by decide) ?_
      refine r_det (r_S cx hw (kX9_of l hl9 g p 5) (va_cwS 2 hts (lw_S q1254 q1255 q94 q1256) rfl rfl rfl (by decide +kernel) ⟨Nat.le_of_ble_eq_true rfl, Nat.le_of_ble_eq_true rfl⟩) [] rfl rfl rfl hl.1 rfl (Nat.le_of_ble_eq_true rfl) dX9_draws_48 ⟨Nat.le_of_ble_eq_true rfl, Nat.le_of_ble_eq_true rfl⟩) cx hw [] rfl rfl rfl (ws' := [(h, .inl (g.2 0, 47, .inl (upd (upd r 2 ((r 2) - (leI (r (5 + 7 * p + 2)) (r 2)))) (5 + 7 * p + 3) (((upd r 2 ((r 2) - (leI (r (5 + 7 * p + 2)) (r 2)))) (5 + 7 * p + 3)) + (leI (r (5 + 7 * p + 2)) (r 2))))))]) (rfl) (fun H locs hw => ?_)
      refine W.eq (g2 := F0 m9 51 ls [.int (nI (5 + 7 * p + 5)), .ref h]) rfl ?_
      refine lv_iconst (v := 1) hx hb dX9_draws_51 (by decide) ?_
      refine r_iast cx hw 0 rfl (5 + 7 * p + 5) rfl (by omega) (Nat.le_of_ble_eq_true rfl) dX9_draws_52 (fun H locs hw => ?_)
      have hw : WS g A9 s9.heap ([(h, .inl (g.2 0, 47, .inl (upd (upd (upd r 2 ((r 2) - (leI (r (5 + 7 * p + 2)) (r 2)))) (5 + 7 * p + 3) (((upd r 2 ((r 2) - (leI (r (5 + 7 * p + 2)) (r 2)))) (5 + 7 * p + 3)) + (leI (r (5 + 7 * p + 2)) (r 2)))) (5 + 7 * p + 5) 1)))]) H locs := hw
      exact J53 c_5 _ _ _ (WS.to hw (by rw [drwB, if_pos c_42N]; rfl)) (lv_sub hl [1, 2, 0] rfl)
  · skip
    have c_5 := bI_e0 c_5
    exact r_vret cx hw (⟨rfl, by rw [drawF, if_neg (by rw [c_5]; decide)]⟩) (Nat.le_of_ble_eq_true rfl) (Nat.le_of_ble_eq_true rfl) dX9_draws_8

set_option maxHeartbeats 4000000 in
set_option maxRecDepth 100000 in
theorem kX9_hour (l : Launch) (hl9 : l.stackTraces = false) (g : GG) (h : Nat) (r : Nat → Int32) (hI : InvM r) (z : Int32) : MC l yX9_hour cX9_hour 5 none 3 65 0 0 g [.ref h, .int z] [(h, .inl (g.2 0, 47, .inl r))] (rt none ([(h, .inl (g.2 0, 47, .inl (hourF r z)))])) (noX) := by
  refine MC.of (by decide) (Nat.le_of_ble_eq_true rfl) ?_
  intro p9 e9 s9 m9 args9 below9 meth9 c9 A9 ls cx htab hw hl
  have hx := cx.1
  have hb := cx.2.1
  have hts := cx.2.2.2.2.1
  have hK := cx.2.2.2.2.2.2.2.1
  have hl : lv_has ls 5 [(0, .ref h), (1, .int z)] := hl
  obtain ⟨hN, h0, hf⟩ := hI
  have J176 : ∀ (H : Heap) (locs : List Loc) (ls : Array Slot), WS g A9 s9.heap ([(h, .inl (g.2 0, 47, .inl (hrC r z)))]) H locs → lv_has ls 5 [(0, .ref h), (1, .int z)] → W p9 l e9 (rmC 3 65 0 0) s9 m9 args9 below9 meth9 c9 H locs 0 0 (vx_MQ below9 (PostA g A9 (rt none ([(h, .inl (g.2 0, 47, .inl (hourF r z)))]))) (PxA g A9 (pxR (noX))) args9 s9 0 0 A9) (F0 m9 176 ls []) := by
    intro H locs ls hw hl
    refine lv_aload_n hx hb dX9_hour_176 rfl (lv_at hl 0 rfl) ?_
    refine lv_iconst (v := 1) hx hb dX9_hour_177 (by decide) ?_
    refine lv_dup2_11 hx hb dX9_hour_178 rfl rfl ?_
    refine r_iald cx hw 0 rfl 1 rfl (by omega) (Nat.le_of_ble_eq_true rfl) dX9_hour_179 ?_
    refine lv_iconst (v := 1) hx hb dX9_hour_180 (by decide) ?_
    refine lv_iadd hx hb dX9_hour_181 ?_
    refine r_iast cx hw 0 rfl 1 rfl (by omega) (Nat.le_of_ble_eq_true rfl) dX9_hour_182 (fun H locs hw => ?_)
    have hw : WS g A9 s9.heap ([(h, .inl (g.2 0, 47, .inl (upd (hrC r z) 1 (((hrC r z) 1) + 1))))]) H locs := hw
    exact r_vret cx hw (⟨rfl, rfl⟩) (Nat.le_of_ble_eq_true rfl) (Nat.le_of_ble_eq_true rfl) dX9_hour_183
  by_cases hE : irem (r 1) 12 = 11
  · skip
    have J119 : ∀ (n9 j : Nat) , j ≤ nN r → nN r < n9 + j → ∀ (H : Heap) (locs : List Loc) (ls : Array Slot), WS g A9 s9.heap ([(h, .inl (g.2 0, 47, .inl (drkF (hrB r z) j)))]) H locs → lv_has ls 5 [(0, .ref h), (1, .int z), (2, .int (irem (r 1) 12)), (3, .int (nI j))] → W p9 l e9 (rmC 3 65 0 0) s9 m9 args9 below9 meth9 c9 H locs 0 0 (vx_MQ below9 (PostA g A9 (rt none ([(h, .inl (g.2 0, 47, .inl (hourF r z)))]))) (PxA g A9 (pxR (noX))) args9 s9 0 0 A9) (F0 m9 119 ls []) := by
      intro n9
      induction n9 with
      | zero => intro j  hj hk9; exact absurd hk9 (by omega)
      | succ n9 ih_J119 =>
        intro j  hj hk9  H locs ls hw hl
        refine lv_iload_n hx hb dX9_hour_119 rfl (lv_at hl 3 rfl) ?_
        refine lv_aload_n hx hb dX9_hour_120 rfl (lv_at hl 0 rfl) ?_
        refine lv_iconst (v := 0) hx hb dX9_hour_121 (by decide) ?_
        refine r_iald cx hw 0 rfl 0 rfl (by omega) (Nat.le_of_ble_eq_true rfl) dX9_hour_122 ?_
        refine r_topi (x' := nI (nN r)) ((drkF_k _ j kpt_0).trans ((hrB_k r z kpt_0).trans h0)) ?_
        refine lv_icmp_ge (tgt := 176) hx hb dX9_hour_123 (by decide) (fun c_123 => ?_) (fun c_123 => ?_)
        · skip
          have c_123 : (nN r) ≤ j := (nI_leI (a := (nN r)) (b := j) (by omega) (by omega)).mp c_123
          have e9 : j = nN r := by omega
          exact J176 _ _ _ (WS.to hw (by rw [hrC, if_pos hE, e9])) (lv_sub hl [0, 1] rfl)
        · skip
          have c_123 : j < (nN r) := Nat.not_le.mp (fun h9 => c_123 ((nI_leI (a := (nN r)) (b := j) (by omega) (by omega)).mpr h9))
          refine lv_iload_n hx hb dX9_hour_126 rfl (lv_at hl 2 rfl) ?_
          refine lv_bipush (v := 11) hx hb dX9_hour_127 (by decide) ?_
          refine lv_icmp_ne (tgt := 176) hx hb dX9_hour_129 (by decide) (fun c_129 => absurd hE c_129) (fun c_129 => ?_)
          refine lv_aload_n hx hb dX9_hour_132 rfl (lv_at hl 0 rfl) ?_
          refine lv_iload_n hx hb dX9_hour_133 rfl (lv_at hl 3 rfl) ?_
          refine lv_iconst (v := 3) hx hb dX9_hour_134 (by decide) ?_
          refine r_det (r_S cx hw (kX9_of l hl9 g j 3) (va_cwS 2 hts (lw_S q1254 q1255 q94 q1256) rfl rfl rfl (by decide +kernel) ⟨Nat.le_of_ble_eq_true rfl, Nat.le_of_ble_eq_true rfl⟩) [] rfl rfl rfl hl.1 rfl (Nat.le_of_ble_eq_true rfl) dX9_hour_135 ⟨Nat.le_of_ble_eq_true rfl, Nat.le_of_ble_eq_true rfl⟩) cx hw [] rfl rfl rfl (ws' := [(h, .inl (g.2 0, 47, .inl (drkF (hrB r z) j)))]) (rfl) (fun H locs hw => ?_)
          refine W.eq (g2 := F0 m9 138 ls [.int (nI (5 + 7 * j + 3)), .ref h]) rfl ?_
          refine r_iald cx hw 0 rfl (5 + 7 * j + 3) rfl (by omega) (Nat.le_of_ble_eq_true rfl) dX9_hour_138 ?_
          refine lv_aload_n hx hb dX9_hour_139 rfl (lv_at hl 0 rfl) ?_
          refine lv_iload_n hx hb dX9_hour_140 rfl (lv_at hl 3 rfl) ?_
          refine lv_iconst (v := 0) hx hb dX9_hour_141 (by decide) ?_
          refine r_det (r_S cx hw (kX9_of l hl9 g j 0) (va_cwS 2 hts (lw_S q1254 q1255 q94 q1256) rfl rfl rfl (by decide +kernel) ⟨Nat.le_of_ble_eq_true rfl, Nat.le_of_ble_eq_true rfl⟩) [] rfl rfl rfl hl.1 rfl (Nat.le_of_ble_eq_true rfl) dX9_hour_142 ⟨Nat.le_of_ble_eq_true rfl, Nat.le_of_ble_eq_true rfl⟩) cx hw [] rfl rfl rfl (ws' := [(h, .inl (g.2 0, 47, .inl (drkF (hrB r z) j)))]) (rfl) (fun H locs hw => ?_)
          refine W.eq (g2 := F0 m9 145 ls [.int (nI (5 + 7 * j)), .ref h, .int ((drkF (hrB r z) j) (5 + 7 * j + 3))]) rfl ?_
          refine r_iald cx hw 0 rfl (5 + 7 * j) rfl (by omega) (Nat.le_of_ble_eq_true rfl) dX9_hour_145 ?_
          refine r_det (r_S cx hw (kX9_drinksBy l hl9 g ((drkF (hrB r z) j) (5 + 7 * j))) (va_cwS 1 hts (lw_S q1285 q1286 q94 q1287) rfl rfl rfl (by decide +kernel) ⟨Nat.le_of_ble_eq_true rfl, Nat.le_of_ble_eq_true rfl⟩) [] rfl rfl rfl hl.1 rfl (Nat.le_of_ble_eq_true rfl) dX9_hour_146 ⟨Nat.le_of_ble_eq_true rfl, Nat.le_of_ble_eq_true rfl⟩) cx hw [] rfl rfl rfl (ws' := [(h, .inl (g.2 0, 47, .inl (drkF (hrB r z) j)))]) (rfl) (fun H locs hw => ?_)
          refine W.eq (g2 := F0 m9 149 ls [.int (drB ((drkF (hrB r z) j) (5 + 7 * j))), .int ((drkF (hrB r z) j) (5 + 7 * j + 3))]) rfl ?_
          refine lv_isub hx hb dX9_hour_149 ?_
          refine lv_istore (lv' := [(4, .int (((drkF (hrB r z) j) (5 + 7 * j + 3)) - (drB ((drkF (hrB r z) j) (5 + 7 * j))))), (0, .ref h), (1, .int z), (2, .int (irem (r 1) 12)), (3, .int (nI j))]) hx hb dX9_hour_150 hl (by decide) rfl (fun ls hl => ?_)
          refine lv_aload_n hx hb dX9_hour_152 rfl (lv_at hl 1 rfl) ?_
          refine lv_iload_n hx hb dX9_hour_153 rfl (lv_at hl 4 rfl) ?_
          refine lv_iconst (v := 3) hx hb dX9_hour_154 (by decide) ?_
          refine r_det (r_S cx hw (kX9_of l hl9 g j 3) (va_cwS 2 hts (lw_S q1254 q1255 q94 q1256) rfl rfl rfl (by decide +kernel) ⟨Nat.le_of_ble_eq_true rfl, Nat.le_of_ble_eq_true rfl⟩) [] rfl rfl rfl hl.1 rfl (Nat.le_of_ble_eq_true rfl) dX9_hour_155 ⟨Nat.le_of_ble_eq_true rfl, Nat.le_of_ble_eq_true rfl⟩) cx hw [] rfl rfl rfl (ws' := [(h, .inl (g.2 0, 47, .inl (drkF (hrB r z) j)))]) (rfl) (fun H locs hw => ?_)
          refine W.eq (g2 := F0 m9 158 ls [.int (nI (5 + 7 * j + 3)), .ref h]) rfl ?_
          refine lv_iload hx hb dX9_hour_158 (lv_at hl 0 rfl) ?_
          refine lv_if_ge (tgt := 167) hx hb dX9_hour_160 (by decide) (fun c_160 => ?_) (fun c_160 => ?_)
          · skip
            have c_160N := Int32.not_lt.mpr c_160
            refine lv_iload hx hb dX9_hour_167 (lv_at hl 0 rfl) ?_
            refine r_iast cx hw 0 rfl (5 + 7 * j + 3) rfl (by omega) (Nat.le_of_ble_eq_true rfl) dX9_hour_169 (fun H locs hw => ?_)
            have hw : WS g A9 s9.heap ([(h, .inl (g.2 0, 47, .inl (upd (drkF (hrB r z) j) (5 + 7 * j + 3) (((drkF (hrB r z) j) (5 + 7 * j + 3)) - (drB ((drkF (hrB r z) j) (5 + 7 * j)))))))]) H locs := hw
            refine lv_iinc (v := nI (j + 1)) (lv' := [(3, .int (nI (j + 1))), (4, .int (((drkF (hrB r z) j) (5 + 7 * j + 3)) - (drB ((drkF (hrB r z) j) (5 + 7 * j))))), (0, .ref h), (1, .int z), (2, .int (irem (r 1) 12))]) hx hb dX9_hour_170 hl (k := 4) rfl (nI_1 j) (by decide) rfl (fun ls hl => ?_)
            refine lv_goto (tgt := 119) hx hb dX9_hour_173 (by decide) ?_
            exact ih_J119 (j + 1)  (by omega) (by omega)  _ _ _ (WS.to hw (by rw [drkF_s, dkV, if_neg c_160N])) (lv_sub hl [2, 3, 4, 0] rfl)
          · skip
            have c_160N := Int32.not_le.mp c_160
            refine lv_iconst (v := 0) hx hb dX9_hour_163 (by decide) ?_
            refine lv_goto (tgt := 169) hx hb dX9_hour_164 (by decide) ?_
            refine r_iast cx hw 0 rfl (5 + 7 * j + 3) rfl (by omega) (Nat.le_of_ble_eq_true rfl) dX9_hour_169 (fun H locs hw => ?_)
            have hw : WS g A9 s9.heap ([(h, .inl (g.2 0, 47, .inl (upd (drkF (hrB r z) j) (5 + 7 * j + 3) 0)))]) H locs := hw
            refine lv_iinc (v := nI (j + 1)) (lv' := [(3, .int (nI (j + 1))), (4, .int (((drkF (hrB r z) j) (5 + 7 * j + 3)) - (drB ((drkF (hrB r z) j) (5 + 7 * j))))), (0, .ref h), (1, .int z), (2, .int (irem (r 1) 12))]) hx hb dX9_hour_170 hl (k := 4) rfl (nI_1 j) (by decide) rfl (fun ls hl => ?_)
            refine lv_goto (tgt := 119) hx hb dX9_hour_173 (by decide) ?_
            exact ih_J119 (j + 1)  (by omega) (by omega)  _ _ _ (WS.to hw (by rw [drkF_s, dkV, if_pos c_160N])) (lv_sub hl [2, 3, 4, 0] rfl)
    have hfj : ∀ q, q < nN r → frN (drwF (spkF z (irem (r 1) 12) (hrA r) (nN r)) q) q < 6 ∧ drwF (spkF z (irem (r 1) 12) (hrA r) (nN r)) q (5 + 7 * q + 6) = nI (frN (drwF (spkF z (irem (r 1) 12) (hrA r) (nN r)) q) q) := by
      intro q hq
      have e9 : drwF (spkF z (irem (r 1) 12) (hrA r) (nN r)) q (5 + 7 * q + 6) = r (5 + 7 * q + 6) := (drwF_k _ q (kpt_fr q)).trans ((spkF_k z _ _ _ (kpt_fr q)).trans (hrA_k r (kpt_fr q)))
      have e8 : frN (drwF (spkF z (irem (r 1) 12) (hrA r) (nN r)) q) q = frN r q := by unfold frN; rw [e9]
      rw [e8, e9]; exact hf q hq
    have J99 : ∀ (n9 j : Nat) , j ≤ nN r → nN r < n9 + j → ∀ (H : Heap) (locs : List Loc) (ls : Array Slot), WS g A9 s9.heap ([(h, .inl (g.2 0, 47, .inl (drwF (spkF z (irem (r 1) 12) (hrA r) (nN r)) j)))]) H locs → lv_has ls 5 [(0, .ref h), (1, .int z), (2, .int (irem (r 1) 12)), (3, .int (nI j))] → W p9 l e9 (rmC 3 65 0 0) s9 m9 args9 below9 meth9 c9 H locs 0 0 (vx_MQ below9 (PostA g A9 (rt none ([(h, .inl (g.2 0, 47, .inl (hourF r z)))]))) (PxA g A9 (pxR (noX))) args9 s9 0 0 A9) (F0 m9 99 ls []) := by
      intro n9
      induction n9 with
      | zero => intro j  hj hk9; exact absurd hk9 (by omega)
      | succ n9 ih_J99 =>
        intro j  hj hk9  H locs ls hw hl
        refine lv_iload_n hx hb dX9_hour_99 rfl (lv_at hl 3 rfl) ?_
        refine lv_aload_n hx hb dX9_hour_100 rfl (lv_at hl 0 rfl) ?_
        refine lv_iconst (v := 0) hx hb dX9_hour_101 (by decide) ?_
        refine r_iald cx hw 0 rfl 0 rfl (by omega) (Nat.le_of_ble_eq_true rfl) dX9_hour_102 ?_
        refine r_topi (x' := nI (nN r)) ((drwF_k _ j kpt_0).trans ((spkF_k z _ _ _ kpt_0).trans ((hrA_k r kpt_0).trans h0))) ?_
        refine lv_icmp_ge (tgt := 117) hx hb dX9_hour_103 (by decide) (fun c_103 => ?_) (fun c_103 => ?_)
        · skip
          have c_103 : (nN r) ≤ j := (nI_leI (a := (nN r)) (b := j) (by omega) (by omega)).mp c_103
          refine lv_iconst (v := 0) hx hb dX9_hour_117 (by decide) ?_
          refine lv_istore_n (lv' := [(3, .int 0), (0, .ref h), (1, .int z), (2, .int (irem (r 1) 12))]) hx hb dX9_hour_118 rfl hl (by decide) rfl (fun ls hl => ?_)
          have e9 : j = nN r := by omega
          exact J119 (nN r + 1) 0  (by omega) (by omega)  _ _ _ (WS.to hw (by rw [e9] <;> rfl)) (lv_sub hl [1, 2, 3, 0] rfl)
        · skip
          have c_103 : j < (nN r) := Nat.not_le.mp (fun h9 => c_103 ((nI_leI (a := (nN r)) (b := j) (by omega) (by omega)).mpr h9))
          refine lv_aload_n hx hb dX9_hour_106 rfl (lv_at hl 0 rfl) ?_
          refine lv_iload_n hx hb dX9_hour_107 rfl (lv_at hl 3 rfl) ?_
          refine r_det (r_S cx hw (kX9_draws l hl9 g h (drwF (spkF z (irem (r 1) 12) (hrA r) (nN r)) j) j (by omega) (hfj j (by omega)).1 (hfj j (by omega)).2) (va_cwS 2 hts (lw_S q1279 q1280 q94 q1281) rfl rfl rfl (by decide +kernel) ⟨Nat.le_of_ble_eq_true rfl, Nat.le_of_ble_eq_true rfl⟩) [0] rfl rfl rfl hl.1 rfl (Nat.le_of_ble_eq_true rfl) dX9_hour_108 ⟨Nat.le_of_ble_eq_true rfl, Nat.le_of_ble_eq_true rfl⟩) cx hw [0] rfl rfl rfl (ws' := [(h, .inl (g.2 0, 47, .inl (drawF (drwF (spkF z (irem (r 1) 12) (hrA r) (nN r)) j) j)))]) (rfl) (fun H locs hw => ?_)
          refine W.eq (g2 := F0 m9 111 ls []) rfl ?_
          refine lv_iinc (v := nI (j + 1)) (lv' := [(3, .int (nI (j + 1))), (0, .ref h), (1, .int z), (2, .int (irem (r 1) 12))]) hx hb dX9_hour_111 hl (k := 3) rfl (nI_1 j) (by decide) rfl (fun ls hl => ?_)
          refine lv_goto (tgt := 99) hx hb dX9_hour_114 (by decide) ?_
          exact ih_J99 (j + 1)  (by omega) (by omega)  _ _ _ (hw) (lv_sub hl [1, 2, 3, 0] rfl)
    have J59 : ∀ (n9 j : Nat) , j ≤ nN r → nN r < n9 + j → ∀ (H : Heap) (locs : List Loc) (ls : Array Slot), WS g A9 s9.heap ([(h, .inl (g.2 0, 47, .inl (spkF z (irem (r 1) 12) (hrA r) j)))]) H locs → lv_has ls 5 [(0, .ref h), (1, .int z), (2, .int (irem (r 1) 12)), (3, .int (nI j))] → W p9 l e9 (rmC 3 65 0 0) s9 m9 args9 below9 meth9 c9 H locs 0 0 (vx_MQ below9 (PostA g A9 (rt none ([(h, .inl (g.2 0, 47, .inl (hourF r z)))]))) (PxA g A9 (pxR (noX))) args9 s9 0 0 A9) (F0 m9 59 ls []) := by
      intro n9
      induction n9 with
      | zero => intro j  hj hk9; exact absurd hk9 (by omega)
      | succ n9 ih_J59 =>
        intro j  hj hk9  H locs ls hw hl
        refine lv_iload_n hx hb dX9_hour_59 rfl (lv_at hl 3 rfl) ?_
        refine lv_aload_n hx hb dX9_hour_60 rfl (lv_at hl 0 rfl) ?_
        refine lv_iconst (v := 0) hx hb dX9_hour_61 (by decide) ?_
        refine r_iald cx hw 0 rfl 0 rfl (by omega) (Nat.le_of_ble_eq_true rfl) dX9_hour_62 ?_
        refine r_topi (x' := nI (nN r)) ((spkF_k z _ _ j kpt_0).trans ((hrA_k r kpt_0).trans h0)) ?_
        refine lv_icmp_ge (tgt := 97) hx hb dX9_hour_63 (by decide) (fun c_63 => ?_) (fun c_63 => ?_)
        · skip
          have c_63 : (nN r) ≤ j := (nI_leI (a := (nN r)) (b := j) (by omega) (by omega)).mp c_63
          refine lv_iconst (v := 0) hx hb dX9_hour_97 (by decide) ?_
          refine lv_istore_n (lv' := [(3, .int 0), (0, .ref h), (1, .int z), (2, .int (irem (r 1) 12))]) hx hb dX9_hour_98 rfl hl (by decide) rfl (fun ls hl => ?_)
          have e9 : j = nN r := by omega
          exact J99 (nN r + 1) 0  (by omega) (by omega)  _ _ _ (WS.to hw (by rw [e9] <;> rfl)) (lv_sub hl [1, 2, 3, 0] rfl)
        · skip
          have c_63 : j < (nN r) := Nat.not_le.mp (fun h9 => c_63 ((nI_leI (a := (nN r)) (b := j) (by omega) (by omega)).mpr h9))
          refine lv_aload_n hx hb dX9_hour_66 rfl (lv_at hl 0 rfl) ?_
          refine lv_iload_n hx hb dX9_hour_67 rfl (lv_at hl 3 rfl) ?_
          refine r_det (r_S cx hw (kX9_speaksIn l hl9 g h (spkF z (irem (r 1) 12) (hrA r) j) j (by omega)) (va_cwS 2 hts (lw_S q1270 q1271 q94 q1272) rfl rfl rfl (by decide +kernel) ⟨Nat.le_of_ble_eq_true rfl, Nat.le_of_ble_eq_true rfl⟩) [0] rfl rfl rfl hl.1 rfl (Nat.le_of_ble_eq_true rfl) dX9_hour_68 ⟨Nat.le_of_ble_eq_true rfl, Nat.le_of_ble_eq_true rfl⟩) cx hw [0] rfl rfl rfl (ws' := [(h, .inl (g.2 0, 47, .inl (spkF z (irem (r 1) 12) (hrA r) j)))]) (rfl) (fun H locs hw => ?_)
          refine W.eq (g2 := F0 m9 71 ls [.int (spI (spkF z (irem (r 1) 12) (hrA r) j) j)]) rfl ?_
          refine lv_iload_n hx hb dX9_hour_71 rfl (lv_at hl 2 rfl) ?_
          refine lv_icmp_eq (tgt := 83) hx hb dX9_hour_72 (by decide) (fun c_72 => ?_) (fun c_72 => ?_)
          · skip
            refine lv_aload_n hx hb dX9_hour_83 rfl (lv_at hl 0 rfl) ?_
            refine lv_iload_n hx hb dX9_hour_84 rfl (lv_at hl 3 rfl) ?_
            refine lv_iconst (v := 4) hx hb dX9_hour_85 (by decide) ?_
            refine r_det (r_S cx hw (kX9_of l hl9 g j 4) (va_cwS 2 hts (lw_S q1254 q1255 q94 q1256) rfl rfl rfl (by decide +kernel) ⟨Nat.le_of_ble_eq_true rfl, Nat.le_of_ble_eq_true rfl⟩) [] rfl rfl rfl hl.1 rfl (Nat.le_of_ble_eq_true rfl) dX9_hour_86 ⟨Nat.le_of_ble_eq_true rfl, Nat.le_of_ble_eq_true rfl⟩) cx hw [] rfl rfl rfl (ws' := [(h, .inl (g.2 0, 47, .inl (spkF z (irem (r 1) 12) (hrA r) j)))]) (rfl) (fun H locs hw => ?_)
            refine W.eq (g2 := F0 m9 89 ls [.int (nI (5 + 7 * j + 4)), .ref h]) rfl ?_
            refine lv_iconst (v := 1) hx hb dX9_hour_89 (by decide) ?_
            refine r_iast cx hw 0 rfl (5 + 7 * j + 4) rfl (by omega) (Nat.le_of_ble_eq_true rfl) dX9_hour_90 (fun H locs hw => ?_)
            have hw : WS g A9 s9.heap ([(h, .inl (g.2 0, 47, .inl (upd (spkF z (irem (r 1) 12) (hrA r) j) (5 + 7 * j + 4) 1)))]) H locs := hw
            refine lv_iinc (v := nI (j + 1)) (lv' := [(3, .int (nI (j + 1))), (0, .ref h), (1, .int z), (2, .int (irem (r 1) 12))]) hx hb dX9_hour_91 hl (k := 3) rfl (nI_1 j) (by decide) rfl (fun ls hl => ?_)
            refine lv_goto (tgt := 59) hx hb dX9_hour_94 (by decide) ?_
            exact ih_J59 (j + 1)  (by omega) (by omega)  _ _ _ (WS.to hw (by rw [spkF_s, if_pos (Or.inl c_72)])) (lv_sub hl [1, 2, 3, 0] rfl)
          · skip
            refine lv_iload_n hx hb dX9_hour_75 rfl (lv_at hl 1 rfl) ?_
            refine lv_iload_n hx hb dX9_hour_76 rfl (lv_at hl 3 rfl) ?_
            refine r_det (r_S cx hw (kX9_has l hl9 g z (nI j)) (va_cwS 2 hts (lw_S q1273 q1274 q94 q1275) rfl rfl rfl (by decide +kernel) ⟨Nat.le_of_ble_eq_true rfl, Nat.le_of_ble_eq_true rfl⟩) [] rfl rfl rfl hl.1 rfl (Nat.le_of_ble_eq_true rfl) dX9_hour_77 ⟨Nat.le_of_ble_eq_true rfl, Nat.le_of_ble_eq_true rfl⟩) cx hw [] rfl rfl rfl (ws' := [(h, .inl (g.2 0, 47, .inl (spkF z (irem (r 1) 12) (hrA r) j)))]) (rfl) (fun H locs hw => ?_)
            refine W.eq (g2 := F0 m9 80 ls [.int (bI (hsB z (nI j)))]) rfl ?_
            refine lv_if_eq (tgt := 91) hx hb dX9_hour_80 (by decide) (fun c_80 => ?_) (fun c_80 => ?_)
            · skip
              have c_80 := bI_e0 c_80
              refine lv_iinc (v := nI (j + 1)) (lv' := [(3, .int (nI (j + 1))), (0, .ref h), (1, .int z), (2, .int (irem (r 1) 12))]) hx hb dX9_hour_91 hl (k := 3) rfl (nI_1 j) (by decide) rfl (fun ls hl => ?_)
              refine lv_goto (tgt := 59) hx hb dX9_hour_94 (by decide) ?_
              exact ih_J59 (j + 1)  (by omega) (by omega)  _ _ _ (WS.to hw (by rw [spkF_s, if_neg (fun h9 => h9.elim c_72 (fun h8 => by rw [c_80] at h8; cases h8))])) (lv_sub hl [1, 2, 3, 0] rfl)
            · skip
              have c_80 := bI_n0 c_80
              refine lv_aload_n hx hb dX9_hour_83 rfl (lv_at hl 0 rfl) ?_
              refine lv_iload_n hx hb dX9_hour_84 rfl (lv_at hl 3 rfl) ?_
              refine lv_iconst (v := 4) hx hb dX9_hour_85 (by decide) ?_
              refine r_det (r_S cx hw (kX9_of l hl9 g j 4) (va_cwS 2 hts (lw_S q1254 q1255 q94 q1256) rfl rfl rfl (by decide +kernel) ⟨Nat.le_of_ble_eq_true rfl, Nat.le_of_ble_eq_true rfl⟩) [] rfl rfl rfl hl.1 rfl (Nat.le_of_ble_eq_true rfl) dX9_hour_86 ⟨Nat.le_of_ble_eq_true rfl, Nat.le_of_ble_eq_true rfl⟩) cx hw [] rfl rfl rfl (ws' := [(h, .inl (g.2 0, 47, .inl (spkF z (irem (r 1) 12) (hrA r) j)))]) (rfl) (fun H locs hw => ?_)
              refine W.eq (g2 := F0 m9 89 ls [.int (nI (5 + 7 * j + 4)), .ref h]) rfl ?_
              refine lv_iconst (v := 1) hx hb dX9_hour_89 (by decide) ?_
              refine r_iast cx hw 0 rfl (5 + 7 * j + 4) rfl (by omega) (Nat.le_of_ble_eq_true rfl) dX9_hour_90 (fun H locs hw => ?_)
              have hw : WS g A9 s9.heap ([(h, .inl (g.2 0, 47, .inl (upd (spkF z (irem (r 1) 12) (hrA r) j) (5 + 7 * j + 4) 1)))]) H locs := hw
              refine lv_iinc (v := nI (j + 1)) (lv' := [(3, .int (nI (j + 1))), (0, .ref h), (1, .int z), (2, .int (irem (r 1) 12))]) hx hb dX9_hour_91 hl (k := 3) rfl (nI_1 j) (by decide) rfl (fun ls hl => ?_)
              refine lv_goto (tgt := 59) hx hb dX9_hour_94 (by decide) ?_
              exact ih_J59 (j + 1)  (by omega) (by omega)  _ _ _ (WS.to hw (by rw [spkF_s, if_pos (Or.inr c_80)])) (lv_sub hl [1, 2, 3, 0] rfl)
    by_cases hZ : irem (r 1) 12 = 0
    · skip
      have J13 : ∀ (n9 j : Nat) , j ≤ nN r → nN r < n9 + j → ∀ (H : Heap) (locs : List Loc) (ls : Array Slot), WS g A9 s9.heap ([(h, .inl (g.2 0, 47, .inl (clrF r j)))]) H locs → lv_has ls 5 [(0, .ref h), (1, .int z), (2, .int (irem (r 1) 12)), (3, .int (nI j))] → W p9 l e9 (rmC 3 65 0 0) s9 m9 args9 below9 meth9 c9 H locs 0 0 (vx_MQ below9 (PostA g A9 (rt none ([(h, .inl (g.2 0, 47, .inl (hourF r z)))]))) (PxA g A9 (pxR (noX))) args9 s9 0 0 A9) (F0 m9 13 ls []) := by
        intro n9
        induction n9 with
        | zero => intro j  hj hk9; exact absurd hk9 (by omega)
        | succ n9 ih_J13 =>
          intro j  hj hk9  H locs ls hw hl
          refine lv_iload_n hx hb dX9_hour_13 rfl (lv_at hl 3 rfl) ?_
          refine lv_aload_n hx hb dX9_hour_14 rfl (lv_at hl 0 rfl) ?_
          refine lv_iconst (v := 0) hx hb dX9_hour_15 (by decide) ?_
          refine r_iald cx hw 0 rfl 0 rfl (by omega) (Nat.le_of_ble_eq_true rfl) dX9_hour_16 ?_
          refine r_topi (x' := nI (nN r)) ((clrF_k r j kpt_0).trans h0) ?_
          refine lv_icmp_ge (tgt := 42) hx hb dX9_hour_17 (by decide) (fun c_17 => ?_) (fun c_17 => ?_)
          · skip
            have c_17 : (nN r) ≤ j := (nI_leI (a := (nN r)) (b := j) (by omega) (by omega)).mp c_17
            refine lv_aload_n hx hb dX9_hour_42 rfl (lv_at hl 0 rfl) ?_
            refine lv_iconst (v := 2) hx hb dX9_hour_43 (by decide) ?_
            refine lv_bipush (v := 99) hx hb dX9_hour_44 (by decide) ?_
            refine lv_aload_n hx hb dX9_hour_46 rfl (lv_at hl 0 rfl) ?_
            refine lv_iconst (v := 2) hx hb dX9_hour_47 (by decide) ?_
            refine r_iald cx hw 0 rfl 2 rfl (by omega) (Nat.le_of_ble_eq_true rfl) dX9_hour_48 ?_
            refine lv_aload_n hx hb dX9_hour_49 rfl (lv_at hl 0 rfl) ?_
            refine lv_iconst (v := 3) hx hb dX9_hour_50 (by decide) ?_
            refine r_iald cx hw 0 rfl 3 rfl (by omega) (Nat.le_of_ble_eq_true rfl) dX9_hour_51 ?_
            refine lv_iadd hx hb dX9_hour_52 ?_
            refine r_det (r_S cx hw (kX9_least l hl9 g 99 (((clrF r j) 2) + ((clrF r j) 3))) (va_cwS 2 hts (lw_S q1267 q1268 q94 q1269) rfl rfl rfl (by decide +kernel) ⟨Nat.le_of_ble_eq_true rfl, Nat.le_of_ble_eq_true rfl⟩) [] rfl rfl rfl hl.1 rfl (Nat.le_of_ble_eq_true rfl) dX9_hour_53 ⟨Nat.le_of_ble_eq_true rfl, Nat.le_of_ble_eq_true rfl⟩) cx hw [] rfl rfl rfl (ws' := [(h, .inl (g.2 0, 47, .inl (clrF r j)))]) (rfl) (fun H locs hw => ?_)
            refine W.eq (g2 := F0 m9 56 ls [.int (leI 99 (((clrF r j) 2) + ((clrF r j) 3))), .int 2, .ref h]) rfl ?_
            refine r_iast cx hw 0 rfl 2 rfl (by omega) (Nat.le_of_ble_eq_true rfl) dX9_hour_56 (fun H locs hw => ?_)
            have hw : WS g A9 s9.heap ([(h, .inl (g.2 0, 47, .inl (upd (clrF r j) 2 (leI 99 (((clrF r j) 2) + ((clrF r j) 3))))))]) H locs := hw
            refine lv_iconst (v := 0) hx hb dX9_hour_57 (by decide) ?_
            refine lv_istore_n (lv' := [(3, .int 0), (0, .ref h), (1, .int z), (2, .int (irem (r 1) 12))]) hx hb dX9_hour_58 rfl hl (by decide) rfl (fun ls hl => ?_)
            have e9 : j = nN r := by omega
            exact J59 (nN r + 1) 0 (by omega) (by omega) _ _ _ (WS.to hw (by rw [e9, hrA, if_pos hZ] <;> rfl)) (lv_sub hl [1, 2, 3, 0] rfl)
          · skip
            have c_17 : j < (nN r) := Nat.not_le.mp (fun h9 => c_17 ((nI_leI (a := (nN r)) (b := j) (by omega) (by omega)).mpr h9))
            refine lv_aload_n hx hb dX9_hour_20 rfl (lv_at hl 0 rfl) ?_
            refine lv_iload_n hx hb dX9_hour_21 rfl (lv_at hl 3 rfl) ?_
            refine lv_iconst (v := 4) hx hb dX9_hour_22 (by decide) ?_
            refine r_det (r_S cx hw (kX9_of l hl9 g j 4) (va_cwS 2 hts (lw_S q1254 q1255 q94 q1256) rfl rfl rfl (by decide +kernel) ⟨Nat.le_of_ble_eq_true rfl, Nat.le_of_ble_eq_true rfl⟩) [] rfl rfl rfl hl.1 rfl (Nat.le_of_ble_eq_true rfl) dX9_hour_23 ⟨Nat.le_of_ble_eq_true rfl, Nat.le_of_ble_eq_true rfl⟩) cx hw [] rfl rfl rfl (ws' := [(h, .inl (g.2 0, 47, .inl (clrF r j)))]) (rfl) (fun H locs hw => ?_)
            refine W.eq (g2 := F0 m9 26 ls [.int (nI (5 + 7 * j + 4)), .ref h]) rfl ?_
            refine lv_iconst (v := 0) hx hb dX9_hour_26 (by decide) ?_
            refine r_iast cx hw 0 rfl (5 + 7 * j + 4) rfl (by omega) (Nat.le_of_ble_eq_true rfl) dX9_hour_27 (fun H locs hw => ?_)
            have hw : WS g A9 s9.heap ([(h, .inl (g.2 0, 47, .inl (upd (clrF r j) (5 + 7 * j + 4) 0)))]) H locs := hw
            refine lv_aload_n hx hb dX9_hour_28 rfl (lv_at hl 0 rfl) ?_
            refine lv_iload_n hx hb dX9_hour_29 rfl (lv_at hl 3 rfl) ?_
            refine lv_iconst (v := 5) hx hb dX9_hour_30 (by decide) ?_
            refine r_det (r_S cx hw (kX9_of l hl9 g j 5) (va_cwS 2 hts (lw_S q1254 q1255 q94 q1256) rfl rfl rfl (by decide +kernel) ⟨Nat.le_of_ble_eq_true rfl, Nat.le_of_ble_eq_true rfl⟩) [] rfl rfl rfl hl.1 rfl (Nat.le_of_ble_eq_true rfl) dX9_hour_31 ⟨Nat.le_of_ble_eq_true rfl, Nat.le_of_ble_eq_true rfl⟩) cx hw [] rfl rfl rfl (ws' := [(h, .inl (g.2 0, 47, .inl (upd (clrF r j) (5 + 7 * j + 4) 0)))]) (rfl) (fun H locs hw => ?_)
            refine W.eq (g2 := F0 m9 34 ls [.int (nI (5 + 7 * j + 5)), .ref h]) rfl ?_
            refine lv_iconst (v := 0) hx hb dX9_hour_34 (by decide) ?_
            refine r_iast cx hw 0 rfl (5 + 7 * j + 5) rfl (by omega) (Nat.le_of_ble_eq_true rfl) dX9_hour_35 (fun H locs hw => ?_)
            have hw : WS g A9 s9.heap ([(h, .inl (g.2 0, 47, .inl (upd (upd (clrF r j) (5 + 7 * j + 4) 0) (5 + 7 * j + 5) 0)))]) H locs := hw
            refine lv_iinc (v := nI (j + 1)) (lv' := [(3, .int (nI (j + 1))), (0, .ref h), (1, .int z), (2, .int (irem (r 1) 12))]) hx hb dX9_hour_36 hl (k := 3) rfl (nI_1 j) (by decide) rfl (fun ls hl => ?_)
            refine lv_goto (tgt := 13) hx hb dX9_hour_39 (by decide) ?_
            exact ih_J13 (j + 1)  (by omega) (by omega)  _ _ _ (hw) (lv_sub hl [1, 2, 3, 0] rfl)
      refine lv_aload_n hx hb dX9_hour_0 rfl (lv_at hl 0 rfl) ?_
      refine lv_iconst (v := 1) hx hb dX9_hour_1 (by decide) ?_
      refine r_iald cx hw 0 rfl 1 rfl (by omega) (Nat.le_of_ble_eq_true rfl) dX9_hour_2 ?_
      refine lv_bipush (v := 12) hx hb dX9_hour_3 (by decide) ?_
      refine lv_irem hx hb dX9_hour_5 (by decide) ?_
      refine r_topi (x' := irem (r 1) 12) (rfl) ?_
      refine lv_istore_n (lv' := [(2, .int (irem (r 1) 12)), (0, .ref h), (1, .int z)]) hx hb dX9_hour_6 rfl hl (by decide) rfl (fun ls hl => ?_)
      refine lv_iload_n hx hb dX9_hour_7 rfl (lv_at hl 0 rfl) ?_
      refine lv_if_ne (tgt := 57) hx hb dX9_hour_8 (by decide) (fun c_8 => absurd hZ c_8) (fun c_8 => ?_)
      refine lv_iconst (v := 0) hx hb dX9_hour_11 (by decide) ?_
      refine lv_istore_n (lv' := [(3, .int 0), (2, .int (irem (r 1) 12)), (0, .ref h), (1, .int z)]) hx hb dX9_hour_12 rfl hl (by decide) rfl (fun ls hl => ?_)
      exact J13 (nN r + 1) 0  (by omega) (by omega)  _ _ _ (hw) (lv_sub hl [2, 3, 1, 0] rfl)
    refine lv_aload_n hx hb dX9_hour_0 rfl (lv_at hl 0 rfl) ?_
    refine lv_iconst (v := 1) hx hb dX9_hour_1 (by decide) ?_
    refine r_iald cx hw 0 rfl 1 rfl (by omega) (Nat.le_of_ble_eq_true rfl) dX9_hour_2 ?_
    refine lv_bipush (v := 12) hx hb dX9_hour_3 (by decide) ?_
    refine lv_irem hx hb dX9_hour_5 (by decide) ?_
    refine r_topi (x' := irem (r 1) 12) (rfl) ?_
    refine lv_istore_n (lv' := [(2, .int (irem (r 1) 12)), (0, .ref h), (1, .int z)]) hx hb dX9_hour_6 rfl hl (by decide) rfl (fun ls hl => ?_)
    refine lv_iload_n hx hb dX9_hour_7 rfl (lv_at hl 0 rfl) ?_
    refine lv_if_ne (tgt := 57) hx hb dX9_hour_8 (by decide) (fun c_8 => ?_) (fun c_8 => absurd c_8 hZ)
    refine lv_iconst (v := 0) hx hb dX9_hour_57 (by decide) ?_
    refine lv_istore_n (lv' := [(3, .int 0), (2, .int (irem (r 1) 12)), (0, .ref h), (1, .int z)]) hx hb dX9_hour_58 rfl hl (by decide) rfl (fun ls hl => ?_)
    exact J59 (nN r + 1) 0 (by omega) (by omega) _ _ _ (WS.to hw (by rw [hrA, if_neg hZ] <;> rfl)) (lv_sub hl [2, 3, 1, 0] rfl)
  have J119 : ∀ (H : Heap) (locs : List Loc) (ls : Array Slot), WS g A9 s9.heap ([(h, .inl (g.2 0, 47, .inl (hrB r z)))]) H locs → lv_has ls 5 [(0, .ref h), (1, .int z), (2, .int (irem (r 1) 12)), (3, .int (nI 0))] → W p9 l e9 (rmC 3 65 0 0) s9 m9 args9 below9 meth9 c9 H locs 0 0 (vx_MQ below9 (PostA g A9 (rt none ([(h, .inl (g.2 0, 47, .inl (hourF r z)))]))) (PxA g A9 (pxR (noX))) args9 s9 0 0 A9) (F0 m9 119 ls []) := by
    intro H locs ls hw hl
    refine lv_iload_n hx hb dX9_hour_119 rfl (lv_at hl 3 rfl) ?_
    refine lv_aload_n hx hb dX9_hour_120 rfl (lv_at hl 0 rfl) ?_
    refine lv_iconst (v := 0) hx hb dX9_hour_121 (by decide) ?_
    refine r_iald cx hw 0 rfl 0 rfl (by omega) (Nat.le_of_ble_eq_true rfl) dX9_hour_122 ?_
    refine r_topi (x' := nI (nN r)) ((hrB_k r z kpt_0).trans h0) ?_
    refine lv_icmp_ge (tgt := 176) hx hb dX9_hour_123 (by decide) (fun c_123 => ?_) (fun c_123 => ?_)
    · skip
      have c_123 : (nN r) ≤ 0 := (nI_leI (a := (nN r)) (b := 0) (by omega) (by omega)).mp c_123
      exact J176 _ _ _ (WS.to hw (by rw [hrC, if_neg hE])) (lv_sub hl [0, 1] rfl)
    · skip
      have c_123 : 0 < (nN r) := Nat.not_le.mp (fun h9 => c_123 ((nI_leI (a := (nN r)) (b := 0) (by omega) (by omega)).mpr h9))
      refine lv_iload_n hx hb dX9_hour_126 rfl (lv_at hl 2 rfl) ?_
      refine lv_bipush (v := 11) hx hb dX9_hour_127 (by decide) ?_
      refine lv_icmp_ne (tgt := 176) hx hb dX9_hour_129 (by decide) (fun c_129 => ?_) (fun c_129 => absurd c_129 hE)
      exact J176 _ _ _ (WS.to hw (by rw [hrC, if_neg hE])) (lv_sub hl [0, 1] rfl)
  have hfj : ∀ q, q < nN r → frN (drwF (spkF z (irem (r 1) 12) (hrA r) (nN r)) q) q < 6 ∧ drwF (spkF z (irem (r 1) 12) (hrA r) (nN r)) q (5 + 7 * q + 6) = nI (frN (drwF (spkF z (irem (r 1) 12) (hrA r) (nN r)) q) q) := by
    intro q hq
    have e9 : drwF (spkF z (irem (r 1) 12) (hrA r) (nN r)) q (5 + 7 * q + 6) = r (5 + 7 * q + 6) := (drwF_k _ q (kpt_fr q)).trans ((spkF_k z _ _ _ (kpt_fr q)).trans (hrA_k r (kpt_fr q)))
    have e8 : frN (drwF (spkF z (irem (r 1) 12) (hrA r) (nN r)) q) q = frN r q := by unfold frN; rw [e9]
    rw [e8, e9]; exact hf q hq
  have J99 : ∀ (n9 j : Nat) , j ≤ nN r → nN r < n9 + j → ∀ (H : Heap) (locs : List Loc) (ls : Array Slot), WS g A9 s9.heap ([(h, .inl (g.2 0, 47, .inl (drwF (spkF z (irem (r 1) 12) (hrA r) (nN r)) j)))]) H locs → lv_has ls 5 [(0, .ref h), (1, .int z), (2, .int (irem (r 1) 12)), (3, .int (nI j))] → W p9 l e9 (rmC 3 65 0 0) s9 m9 args9 below9 meth9 c9 H locs 0 0 (vx_MQ below9 (PostA g A9 (rt none ([(h, .inl (g.2 0, 47, .inl (hourF r z)))]))) (PxA g A9 (pxR (noX))) args9 s9 0 0 A9) (F0 m9 99 ls []) := by
    intro n9
    induction n9 with
    | zero => intro j  hj hk9; exact absurd hk9 (by omega)
    | succ n9 ih_J99 =>
      intro j  hj hk9  H locs ls hw hl
      refine lv_iload_n hx hb dX9_hour_99 rfl (lv_at hl 3 rfl) ?_
      refine lv_aload_n hx hb dX9_hour_100 rfl (lv_at hl 0 rfl) ?_
      refine lv_iconst (v := 0) hx hb dX9_hour_101 (by decide) ?_
      refine r_iald cx hw 0 rfl 0 rfl (by omega) (Nat.le_of_ble_eq_true rfl) dX9_hour_102 ?_
      refine r_topi (x' := nI (nN r)) ((drwF_k _ j kpt_0).trans ((spkF_k z _ _ _ kpt_0).trans ((hrA_k r kpt_0).trans h0))) ?_
      refine lv_icmp_ge (tgt := 117) hx hb dX9_hour_103 (by decide) (fun c_103 => ?_) (fun c_103 => ?_)
      · skip
        have c_103 : (nN r) ≤ j := (nI_leI (a := (nN r)) (b := j) (by omega) (by omega)).mp c_103
        refine lv_iconst (v := 0) hx hb dX9_hour_117 (by decide) ?_
        refine lv_istore_n (lv' := [(3, .int 0), (0, .ref h), (1, .int z), (2, .int (irem (r 1) 12))]) hx hb dX9_hour_118 rfl hl (by decide) rfl (fun ls hl => ?_)
        have e9 : j = nN r := by omega
        exact J119 _ _ _ (WS.to hw (by rw [e9] <;> rfl)) (lv_sub hl [1, 2, 3, 0] rfl)
      · skip
        have c_103 : j < (nN r) := Nat.not_le.mp (fun h9 => c_103 ((nI_leI (a := (nN r)) (b := j) (by omega) (by omega)).mpr h9))
        refine lv_aload_n hx hb dX9_hour_106 rfl (lv_at hl 0 rfl) ?_
        refine lv_iload_n hx hb dX9_hour_107 rfl (lv_at hl 3 rfl) ?_
        refine r_det (r_S cx hw (kX9_draws l hl9 g h (drwF (spkF z (irem (r 1) 12) (hrA r) (nN r)) j) j (by omega) (hfj j (by omega)).1 (hfj j (by omega)).2) (va_cwS 2 hts (lw_S q1279 q1280 q94 q1281) rfl rfl rfl (by decide +kernel) ⟨Nat.le_of_ble_eq_true rfl, Nat.le_of_ble_eq_true rfl⟩) [0] rfl rfl rfl hl.1 rfl (Nat.le_of_ble_eq_true rfl) dX9_hour_108 ⟨Nat.le_of_ble_eq_true rfl, Nat.le_of_ble_eq_true rfl⟩) cx hw [0] rfl rfl rfl (ws' := [(h, .inl (g.2 0, 47, .inl (drawF (drwF (spkF z (irem (r 1) 12) (hrA r) (nN r)) j) j)))]) (rfl) (fun H locs hw => ?_)
        refine W.eq (g2 := F0 m9 111 ls []) rfl ?_
        refine lv_iinc (v := nI (j + 1)) (lv' := [(3, .int (nI (j + 1))), (0, .ref h), (1, .int z), (2, .int (irem (r 1) 12))]) hx hb dX9_hour_111 hl (k := 3) rfl (nI_1 j) (by decide) rfl (fun ls hl => ?_)
        refine lv_goto (tgt := 99) hx hb dX9_hour_114 (by decide) ?_
        exact ih_J99 (j + 1)  (by omega) (by omega)  _ _ _ (hw) (lv_sub hl [1, 2, 3, 0] rfl)
  have J59 : ∀ (n9 j : Nat) , j ≤ nN r → nN r < n9 + j → ∀ (H : Heap) (locs : List Loc) (ls : Array Slot), WS g A9 s9.heap ([(h, .inl (g.2 0, 47, .inl (spkF z (irem (r 1) 12) (hrA r) j)))]) H locs → lv_has ls 5 [(0, .ref h), (1, .int z), (2, .int (irem (r 1) 12)), (3, .int (nI j))] → W p9 l e9 (rmC 3 65 0 0) s9 m9 args9 below9 meth9 c9 H locs 0 0 (vx_MQ below9 (PostA g A9 (rt none ([(h, .inl (g.2 0, 47, .inl (hourF r z)))]))) (PxA g A9 (pxR (noX))) args9 s9 0 0 A9) (F0 m9 59 ls []) := by
    intro n9
    induction n9 with
    | zero => intro j  hj hk9; exact absurd hk9 (by omega)
    | succ n9 ih_J59 =>
      intro j  hj hk9  H locs ls hw hl
      refine lv_iload_n hx hb dX9_hour_59 rfl (lv_at hl 3 rfl) ?_
      refine lv_aload_n hx hb dX9_hour_60 rfl (lv_at hl 0 rfl) ?_
      refine lv_iconst (v := 0) hx hb dX9_hour_61 (by decide) ?_
      refine r_iald cx hw 0 rfl 0 rfl (by omega) (Nat.le_of_ble_eq_true rfl) dX9_hour_62 ?_
      refine r_topi (x' := nI (nN r)) ((spkF_k z _ _ j kpt_0).trans ((hrA_k r kpt_0).trans h0)) ?_
      refine lv_icmp_ge (tgt := 97) hx hb dX9_hour_63 (by decide) (fun c_63 => ?_) (fun c_63 => ?_)
      · skip
        have c_63 : (nN r) ≤ j := (nI_leI (a := (nN r)) (b := j) (by omega) (by omega)).mp c_63
        refine lv_iconst (v := 0) hx hb dX9_hour_97 (by decide) ?_
        refine lv_istore_n (lv' := [(3, .int 0), (0, .ref h), (1, .int z), (2, .int (irem (r 1) 12))]) hx hb dX9_hour_98 rfl hl (by decide) rfl (fun ls hl => ?_)
        have e9 : j = nN r := by omega
        exact J99 (nN r + 1) 0  (by omega) (by omega)  _ _ _ (WS.to hw (by rw [e9] <;> rfl)) (lv_sub hl [1, 2, 3, 0] rfl)
      · skip
        have c_63 : j < (nN r) := Nat.not_le.mp (fun h9 => c_63 ((nI_leI (a := (nN r)) (b := j) (by omega) (by omega)).mpr h9))
        refine lv_aload_n hx hb dX9_hour_66 rfl (lv_at hl 0 rfl) ?_
        refine lv_iload_n hx hb dX9_hour_67 rfl (lv_at hl 3 rfl) ?_
        refine r_det (r_S cx hw (kX9_speaksIn l hl9 g h (spkF z (irem (r 1) 12) (hrA r) j) j (by omega)) (va_cwS 2 hts (lw_S q1270 q1271 q94 q1272) rfl rfl rfl (by decide +kernel) ⟨Nat.le_of_ble_eq_true rfl, Nat.le_of_ble_eq_true rfl⟩) [0] rfl rfl rfl hl.1 rfl (Nat.le_of_ble_eq_true rfl) dX9_hour_68 ⟨Nat.le_of_ble_eq_true rfl, Nat.le_of_ble_eq_true rfl⟩) cx hw [0] rfl rfl rfl (ws' := [(h, .inl (g.2 0, 47, .inl (spkF z (irem (r 1) 12) (hrA r) j)))]) (rfl) (fun H locs hw => ?_)
        refine W.eq (g2 := F0 m9 71 ls [.int (spI (spkF z (irem (r 1) 12) (hrA r) j) j)]) rfl ?_
        refine lv_iload_n hx hb dX9_hour_71 rfl (lv_at hl 2 rfl) ?_
        refine lv_icmp_eq (tgt := 83) hx hb dX9_hour_72 (by decide) (fun c_72 => ?_) (fun c_72 => ?_)
        · skip
          refine lv_aload_n hx hb dX9_hour_83 rfl (lv_at hl 0 rfl) ?_
          refine lv_iload_n hx hb dX9_hour_84 rfl (lv_at hl 3 rfl) ?_
          refine lv_iconst (v := 4) hx hb dX9_hour_85 (by decide) ?_
          refine r_det (r_S cx hw (kX9_of l hl9 g j 4) (va_cwS 2 hts (lw_S q1254 q1255 q94 q1256) rfl rfl rfl (by decide +kernel) ⟨Nat.le_of_ble_eq_true rfl, Nat.le_of_ble_eq_true rfl⟩) [] rfl rfl rfl hl.1 rfl (Nat.le_of_ble_eq_true rfl) dX9_hour_86 ⟨Nat.le_of_ble_eq_true rfl, Nat.le_of_ble_eq_true rfl⟩) cx hw [] rfl rfl rfl (ws' := [(h, .inl (g.2 0, 47, .inl (spkF z (irem (r 1) 12) (hrA r) j)))]) (rfl) (fun H locs hw => ?_)
          refine W.eq (g2 := F0 m9 89 ls [.int (nI (5 + 7 * j + 4)), .ref h]) rfl ?_
          refine lv_iconst (v := 1) hx hb dX9_hour_89 (by decide) ?_
          refine r_iast cx hw 0 rfl (5 + 7 * j + 4) rfl (by omega) (Nat.le_of_ble_eq_true rfl) dX9_hour_90 (fun H locs hw => ?_)
          have hw : WS g A9 s9.heap ([(h, .inl (g.2 0, 47, .inl (upd (spkF z (irem (r 1) 12) (hrA r) j) (5 + 7 * j + 4) 1)))]) H locs := hw
          refine lv_iinc (v := nI (j + 1)) (lv' := [(3, .int (nI (j + 1))), (0, .ref h), (1, .int z), (2, .int (irem (r 1) 12))]) hx hb dX9_hour_91 hl (k := 3) rfl (nI_1 j) (by decide) rfl (fun ls hl => ?_)
          refine lv_goto (tgt := 59) hx hb dX9_hour_94 (by decide) ?_
          exact ih_J59 (j + 1)  (by omega) (by omega)  _ _ _ (WS.to hw (by rw [spkF_s, if_pos (Or.inl c_72)])) (lv_sub hl [1, 2, 3, 0] rfl)
        · skip
          refine lv_iload_n hx hb dX9_hour_75 rfl (lv_at hl 1 rfl) ?_
          refine lv_iload_n hx hb dX9_hour_76 rfl (lv_at hl 3 rfl) ?_
          refine r_det (r_S cx hw (kX9_has l hl9 g z (nI j)) (va_cwS 2 hts (lw_S q1273 q1274 q94 q1275) rfl rfl rfl (by decide +kernel) ⟨Nat.le_of_ble_eq_true rfl, Nat.le_of_ble_eq_true rfl⟩) [] rfl rfl rfl hl.1 rfl (Nat.le_of_ble_eq_true rfl) dX9_hour_77 ⟨Nat.le_of_ble_eq_true rfl, Nat.le_of_ble_eq_true rfl⟩) cx hw [] rfl rfl rfl (ws' := [(h, .inl (g.2 0, 47, .inl (spkF z (irem (r 1) 12) (hrA r) j)))]) (rfl) (fun H locs hw => ?_)
          refine W.eq (g2 := F0 m9 80 ls [.int (bI (hsB z (nI j)))]) rfl ?_
          refine lv_if_eq (tgt := 91) hx hb dX9_hour_80 (by decide) (fun c_80 => ?_) (fun c_80 => ?_)
          · skip
            have c_80 := bI_e0 c_80
            refine lv_iinc (v := nI (j + 1)) (lv' := [(3, .int (nI (j + 1))), (0, .ref h), (1, .int z), (2, .int (irem (r 1) 12))]) hx hb dX9_hour_91 hl (k := 3) rfl (nI_1 j) (by decide) rfl (fun ls hl => ?_)
            refine lv_goto (tgt := 59) hx hb dX9_hour_94 (by decide) ?_
            exact ih_J59 (j + 1)  (by omega) (by omega)  _ _ _ (WS.to hw (by rw [spkF_s, if_neg (fun h9 => h9.elim c_72 (fun h8 => by rw [c_80] at h8; cases h8))])) (lv_sub hl [1, 2, 3, 0] rfl)
          · skip
            have c_80 := bI_n0 c_80
            refine lv_aload_n hx hb dX9_hour_83 rfl (lv_at hl 0 rfl) ?_
            refine lv_iload_n hx hb dX9_hour_84 rfl (lv_at hl 3 rfl) ?_
            refine lv_iconst (v := 4) hx hb dX9_hour_85 (by decide) ?_
            refine r_det (r_S cx hw (kX9_of l hl9 g j 4) (va_cwS 2 hts (lw_S q1254 q1255 q94 q1256) rfl rfl rfl (by decide +kernel) ⟨Nat.le_of_ble_eq_true rfl, Nat.le_of_ble_eq_true rfl⟩) [] rfl rfl rfl hl.1 rfl (Nat.le_of_ble_eq_true rfl) dX9_hour_86 ⟨Nat.le_of_ble_eq_true rfl, Nat.le_of_ble_eq_true rfl⟩) cx hw [] rfl rfl rfl (ws' := [(h, .inl (g.2 0, 47, .inl (spkF z (irem (r 1) 12) (hrA r) j)))]) (rfl) (fun H locs hw => ?_)
            refine W.eq (g2 := F0 m9 89 ls [.int (nI (5 + 7 * j + 4)), .ref h]) rfl ?_
            refine lv_iconst (v := 1) hx hb dX9_hour_89 (by decide) ?_
            refine r_iast cx hw 0 rfl (5 + 7 * j + 4) rfl (by omega) (Nat.le_of_ble_eq_true rfl) dX9_hour_90 (fun H locs hw => ?_)
            have hw : WS g A9 s9.heap ([(h, .inl (g.2 0, 47, .inl (upd (spkF z (irem (r 1) 12) (hrA r) j) (5 + 7 * j + 4) 1)))]) H locs := hw
            refine lv_iinc (v := nI (j + 1)) (lv' := [(3, .int (nI (j + 1))), (0, .ref h), (1, .int z), (2, .int (irem (r 1) 12))]) hx hb dX9_hour_91 hl (k := 3) rfl (nI_1 j) (by decide) rfl (fun ls hl => ?_)
            refine lv_goto (tgt := 59) hx hb dX9_hour_94 (by decide) ?_
            exact ih_J59 (j + 1)  (by omega) (by omega)  _ _ _ (WS.to hw (by rw [spkF_s, if_pos (Or.inr c_80)])) (lv_sub hl [1, 2, 3, 0] rfl)
  by_cases hZ : irem (r 1) 12 = 0
  · skip
    have J13 : ∀ (n9 j : Nat) , j ≤ nN r → nN r < n9 + j → ∀ (H : Heap) (locs : List Loc) (ls : Array Slot), WS g A9 s9.heap ([(h, .inl (g.2 0, 47, .inl (clrF r j)))]) H locs → lv_has ls 5 [(0, .ref h), (1, .int z), (2, .int (irem (r 1) 12)), (3, .int (nI j))] → W p9 l e9 (rmC 3 65 0 0) s9 m9 args9 below9 meth9 c9 H locs 0 0 (vx_MQ below9 (PostA g A9 (rt none ([(h, .inl (g.2 0, 47, .inl (hourF r z)))]))) (PxA g A9 (pxR (noX))) args9 s9 0 0 A9) (F0 m9 13 ls []) := by
      intro n9
      induction n9 with
      | zero => intro j  hj hk9; exact absurd hk9 (by omega)
      | succ n9 ih_J13 =>
        intro j  hj hk9  H locs ls hw hl
        refine lv_iload_n hx hb dX9_hour_13 rfl (lv_at hl 3 rfl) ?_
        refine lv_aload_n hx hb dX9_hour_14 rfl (lv_at hl 0 rfl) ?_
        refine lv_iconst (v := 0) hx hb dX9_hour_15 (by decide) ?_
        refine r_iald cx hw 0 rfl 0 rfl (by omega) (Nat.le_of_ble_eq_true rfl) dX9_hour_16 ?_
        refine r_topi (x' := nI (nN r)) ((clrF_k r j kpt_0).trans h0) ?_
        refine lv_icmp_ge (tgt := 42) hx hb dX9_hour_17 (by decide) (fun c_17 => ?_) (fun c_17 => ?_)
        · skip
          have c_17 : (nN r) ≤ j := (nI_leI (a := (nN r)) (b := j) (by omega) (by omega)).mp c_17
          refine lv_aload_n hx hb dX9_hour_42 rfl (lv_at hl 0 rfl) ?_
          refine lv_iconst (v := 2) hx hb dX9_hour_43 (by decide) ?_
          refine lv_bipush (v := 99) hx hb dX9_hour_44 (by decide) ?_
          refine lv_aload_n hx hb dX9_hour_46 rfl (lv_at hl 0 rfl) ?_
          refine lv_iconst (v := 2) hx hb dX9_hour_47 (by decide) ?_
          refine r_iald cx hw 0 rfl 2 rfl (by omega) (Nat.le_of_ble_eq_true rfl) dX9_hour_48 ?_
          refine lv_aload_n hx hb dX9_hour_49 rfl (lv_at hl 0 rfl) ?_
          refine lv_iconst (v := 3) hx hb dX9_hour_50 (by decide) ?_
          refine r_iald cx hw 0 rfl 3 rfl (by omega) (Nat.le_of_ble_eq_true rfl) dX9_hour_51 ?_
          refine lv_iadd hx hb dX9_hour_52 ?_
          refine r_det (r_S cx hw (kX9_least l hl9 g 99 (((clrF r j) 2) + ((clrF r j) 3))) (va_cwS 2 hts (lw_S q1267 q1268 q94 q1269) rfl rfl rfl (by decide +kernel) ⟨Nat.le_of_ble_eq_true rfl, Nat.le_of_ble_eq_true rfl⟩) [] rfl rfl rfl hl.1 rfl (Nat.le_of_ble_eq_true rfl) dX9_hour_53 ⟨Nat.le_of_ble_eq_true rfl, Nat.le_of_ble_eq_true rfl⟩) cx hw [] rfl rfl rfl (ws' := [(h, .inl (g.2 0, 47, .inl (clrF r j)))]) (rfl) (fun H locs hw => ?_)
          refine W.eq (g2 := F0 m9 56 ls [.int (leI 99 (((clrF r j) 2) + ((clrF r j) 3))), .int 2, .ref h]) rfl ?_
          refine r_iast cx hw 0 rfl 2 rfl (by omega) (Nat.le_of_ble_eq_true rfl) dX9_hour_56 (fun H locs hw => ?_)
          have hw : WS g A9 s9.heap ([(h, .inl (g.2 0, 47, .inl (upd (clrF r j) 2 (leI 99 (((clrF r j) 2) + ((clrF r j) 3))))))]) H locs := hw
          refine lv_iconst (v := 0) hx hb dX9_hour_57 (by decide) ?_
          refine lv_istore_n (lv' := [(3, .int 0), (0, .ref h), (1, .int z), (2, .int (irem (r 1) 12))]) hx hb dX9_hour_58 rfl hl (by decide) rfl (fun ls hl => ?_)
          have e9 : j = nN r := by omega
          exact J59 (nN r + 1) 0 (by omega) (by omega) _ _ _ (WS.to hw (by rw [e9, hrA, if_pos hZ] <;> rfl)) (lv_sub hl [1, 2, 3, 0] rfl)
        · skip
          have c_17 : j < (nN r) := Nat.not_le.mp (fun h9 => c_17 ((nI_leI (a := (nN r)) (b := j) (by omega) (by omega)).mpr h9))
          refine lv_aload_n hx hb dX9_hour_20 rfl (lv_at hl 0 rfl) ?_
          refine lv_iload_n hx hb dX9_hour_21 rfl (lv_at hl 3 rfl) ?_
          refine lv_iconst (v := 4) hx hb dX9_hour_22 (by decide) ?_
          refine r_det (r_S cx hw (kX9_of l hl9 g j 4) (va_cwS 2 hts (lw_S q1254 q1255 q94 q1256) rfl rfl rfl (by decide +kernel) ⟨Nat.le_of_ble_eq_true rfl, Nat.le_of_ble_eq_true rfl⟩) [] rfl rfl rfl hl.1 rfl (Nat.le_of_ble_eq_true rfl) dX9_hour_23 ⟨Nat.le_of_ble_eq_true rfl, Nat.le_of_ble_eq_true rfl⟩) cx hw [] rfl rfl rfl (ws' := [(h, .inl (g.2 0, 47, .inl (clrF r j)))]) (rfl) (fun H locs hw => ?_)
          refine W.eq (g2 := F0 m9 26 ls [.int (nI (5 + 7 * j + 4)), .ref h]) rfl ?_
          refine lv_iconst (v := 0) hx hb dX9_hour_26 (by decide) ?_
          refine r_iast cx hw 0 rfl (5 + 7 * j + 4) rfl (by omega) (Nat.le_of_ble_eq_true rfl) dX9_hour_27 (fun H locs hw => ?_)
          have hw : WS g A9 s9.heap ([(h, .inl (g.2 0, 47, .inl (upd (clrF r j) (5 + 7 * j + 4) 0)))]) H locs := hw
          refine lv_aload_n hx hb dX9_hour_28 rfl (lv_at hl 0 rfl) ?_
          refine lv_iload_n hx hb dX9_hour_29 rfl (lv_at hl 3 rfl) ?_
          refine lv_iconst (v := 5) hx hb dX9_hour_30 (by decide) ?_
          refine r_det (r_S cx hw (kX9_of l hl9 g j 5) (va_cwS 2 hts (lw_S q1254 q1255 q94 q1256) rfl rfl rfl (by decide +kernel) ⟨Nat.le_of_ble_eq_true rfl, Nat.le_of_ble_eq_true rfl⟩) [] rfl rfl rfl hl.1 rfl (Nat.le_of_ble_eq_true rfl) dX9_hour_31 ⟨Nat.le_of_ble_eq_true rfl, Nat.le_of_ble_eq_true rfl⟩) cx hw [] rfl rfl rfl (ws' := [(h, .inl (g.2 0, 47, .inl (upd (clrF r j) (5 + 7 * j + 4) 0)))]) (rfl) (fun H locs hw => ?_)
          refine W.eq (g2 := F0 m9 34 ls [.int (nI (5 + 7 * j + 5)), .ref h]) rfl ?_
          refine lv_iconst (v := 0) hx hb dX9_hour_34 (by decide) ?_
          refine r_iast cx hw 0 rfl (5 + 7 * j + 5) rfl (by omega) (Nat.le_of_ble_eq_true rfl) dX9_hour_35 (fun H locs hw => ?_)
          have hw : WS g A9 s9.heap ([(h, .inl (g.2 0, 47, .inl (upd (upd (clrF r j) (5 + 7 * j + 4) 0) (5 + 7 * j + 5) 0)))]) H locs := hw
          refine lv_iinc (v := nI (j + 1)) (lv' := [(3, .int (nI (j + 1))), (0, .ref h), (1, .int z), (2, .int (irem (r 1) 12))]) hx hb dX9_hour_36 hl (k := 3) rfl (nI_1 j) (by decide) rfl (fun ls hl => ?_)
          refine lv_goto (tgt := 13) hx hb dX9_hour_39 (by decide) ?_
          exact ih_J13 (j + 1)  (by omega) (by omega)  _ _ _ (hw) (lv_sub hl [1, 2, 3, 0] rfl)
    refine lv_aload_n hx hb dX9_hour_0 rfl (lv_at hl 0 rfl) ?_
    refine lv_iconst (v := 1) hx hb dX9_hour_1 (by decide) ?_
    refine r_iald cx hw 0 rfl 1 rfl (by omega) (Nat.le_of_ble_eq_true rfl) dX9_hour_2 ?_
    refine lv_bipush (v := 12) hx hb dX9_hour_3 (by decide) ?_
    refine lv_irem hx hb dX9_hour_5 (by decide) ?_
    refine r_topi (x' := irem (r 1) 12) (rfl) ?_
    refine lv_istore_n (lv' := [(2, .int (irem (r 1) 12)), (0, .ref h), (1, .int z)]) hx hb dX9_hour_6 rfl hl (by decide) rfl (fun ls hl => ?_)
    refine lv_iload_n hx hb dX9_hour_7 rfl (lv_at hl 0 rfl) ?_
    refine lv_if_ne (tgt := 57) hx hb dX9_hour_8 (by decide) (fun c_8 => absurd hZ c_8) (fun c_8 => ?_)
    refine lv_iconst (v := 0) hx hb dX9_hour_11 (by decide) ?_
    refine lv_istore_n (lv' := [(3, .int 0), (2, .int (irem (r 1) 12)), (0, .ref h), (1, .int z)]) hx hb dX9_hour_12 rfl hl (by decide) rfl (fun ls hl => ?_)
    exact J13 (nN r + 1) 0  (by omega) (by omega)  _ _ _ (hw) (lv_sub hl [2, 3, 1, 0] rfl)
  refine lv_aload_n hx hb dX9_hour_0 rfl (lv_at hl 0 rfl) ?_
  refine lv_iconst (v := 1) hx hb dX9_hour_1 (by decide) ?_
  refine r_iald cx hw 0 rfl 1 rfl (by omega) (Nat.le_of_ble_eq_true rfl) dX9_hour_2 ?_
  refine lv_bipush (v := 12) hx hb dX9_hour_3 (by decide) ?_
  refine lv_irem hx hb dX9_hour_5 (by decide) ?_
  refine r_topi (x' := irem (r 1) 12) (rfl) ?_
  refine lv_istore_n (lv' := [(2, .int (irem (r 1) 12)), (0, .ref h), (1, .int z)]) hx hb dX9_hour_6 rfl hl (by decide) rfl (fun ls hl => ?_)
  refine lv_iload_n hx hb dX9_hour_7 rfl (lv_at hl 0 rfl) ?_
  refine lv_if_ne (tgt := 57) hx hb dX9_hour_8 (by decide) (fun c_8 => ?_) (fun c_8 => absurd c_8 hZ)
  refine lv_iconst (v := 0) hx hb dX9_hour_57 (by decide) ?_
  refine lv_istore_n (lv' := [(3, .int 0), (2, .int (irem (r 1) 12)), (0, .ref h), (1, .int z)]) hx hb dX9_hour_58 rfl hl (by decide) rfl (fun ls hl => ?_)
  exact J59 (nN r + 1) 0 (by omega) (by omega) _ _ _ (WS.to hw (by rw [hrA, if_neg hZ] <;> rfl)) (lv_sub hl [2, 3, 1, 0] rfl)
