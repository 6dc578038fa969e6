/-! the kinds of people -/
set_option maxRecDepth 100000
/-- the six kinds of people -/
def KW (q : Nat → Nat) : va_W := [(q 0, .inr (2, [])), (q 1, .inr (3, [])), (q 2, .inr (4, [])), (q 3, .inr (5, [])), (q 4, .inr (6, [])), (q 5, .inr (7, []))]
theorem minI_leI (a b : Int32) : minI a b = leI a b := by
  unfold minI leI
  by_cases h : a < b
  · rw [if_pos h, if_neg (Int32.not_lt.mpr (Int32.le_of_lt h))]
  · rw [if_neg h]
    by_cases h2 : b < a
    · rw [if_pos h2]
    · rw [if_neg h2]; exact Int32.le_antisymm (Int32.not_lt.mp h2) (Int32.not_lt.mp h)
set_option maxHeartbeats 4000000 in
set_option maxRecDepth 100000 in
theorem kX2_speaksIn (l : Launch) (hl9 : l.stackTraces = false) (g : GG) (q : Nat → Nat) (k : Nat) (r9 : vw_C) (hq9 : (KW q)[k]? = some (q k, .inr (2 + k, []))) (hc9 : vwCl[2 + k]? = some r9) (f : Int32) : MC l yX2_speaksIn cX2_speaksIn 2 (some .int) 0 0 0 0 g [.ref (q k), .int f] (KW q) (rt (some (.int (spB (nI 0) f))) (KW q)) (noX) := by
  refine MC.of (by decide) (Nat.le_of_ble_eq_true rfl) ?_
  intro p9 e9 s9 m9 args9 below9 meth9 c9 A9 ls cx htab hw hl
  have hx := cx.1
  have hb := cx.2.1
  have hts := cx.2.2.2.2.1
  have hK := cx.2.2.2.2.2.2.2.1
  have hl : lv_has ls 2 [(0, .ref (q k)), (1, .int f)] := hl
  refine lv_iload_n hx hb dX2_speaksIn_0 rfl (lv_at hl 1 rfl) ?_
  refine lv_iconst (v := 2) hx hb dX2_speaksIn_1 (by decide) ?_
  refine lv_idiv hx hb dX2_speaksIn_2 (by decide) ?_
  refine lv_iconst (v := 1) hx hb dX2_speaksIn_3 (by decide) ?_
  refine lv_iadd hx hb dX2_speaksIn_4 ?_
  exact r_iret cx hw (⟨rfl, rfl⟩) (Nat.le_of_ble_eq_true rfl) (Nat.le_of_ble_eq_true rfl) dX2_speaksIn_5

set_option maxHeartbeats 4000000 in
set_option maxRecDepth 100000 in
theorem kX2_drinks (l : Launch) (hl9 : l.stackTraces = false) (g : GG) (q : Nat → Nat) (k : Nat) (r9 : vw_C) (hq9 : (KW q)[k]? = some (q k, .inr (2 + k, []))) (hc9 : vwCl[2 + k]? = some r9)  : MC l yX2_drinks cX2_drinks 1 (some .int) 0 0 0 0 g [.ref (q k)] (KW q) (rt (some (.int (drB (nI 0)))) (KW q)) (noX) := by
  refine MC.of (by decide) (Nat.le_of_ble_eq_true rfl) ?_
  intro p9 e9 s9 m9 args9 below9 meth9 c9 A9 ls cx htab hw hl
  have hx := cx.1
  have hb := cx.2.1
  have hts := cx.2.2.2.2.1
  have hK := cx.2.2.2.2.2.2.2.1
  have hl : lv_has ls 1 [(0, .ref (q k))] := hl
  refine lv_iconst (v := 3) hx hb dX2_drinks_0 (by decide) ?_
  exact r_iret cx hw (⟨rfl, rfl⟩) (Nat.le_of_ble_eq_true rfl) (Nat.le_of_ble_eq_true rfl) dX2_drinks_1

set_option maxHeartbeats 4000000 in
set_option maxRecDepth 100000 in
theorem kX2_kind (l : Launch) (hl9 : l.stackTraces = false) (g : GG) (q : Nat → Nat) (k : Nat) (r9 : vw_C) (hq9 : (KW q)[k]? = some (q k, .inr (2 + k, []))) (hc9 : vwCl[2 + k]? = some r9)  : MC l yX2_kind cX2_kind 1 (some .int) 0 0 0 0 g [.ref (q k)] (KW q) (rt (some (.int (nI 0))) (KW q)) (noX) := by
  refine MC.of (by decide) (Nat.le_of_ble_eq_true rfl) ?_
  intro p9 e9 s9 m9 args9 below9 meth9 c9 A9 ls cx htab hw hl
  have hx := cx.1
  have hb := cx.2.1
  have hts := cx.2.2.2.2.1
  have hK := cx.2.2.2.2.2.2.2.1
  have hl : lv_has ls 1 [(0, .ref (q k))] := hl
  refine lv_iconst (v := 0) hx hb dX2_kind_0 (by decide) ?_
  exact r_iret cx hw (⟨rfl, rfl⟩) (Nat.le_of_ble_eq_true rfl) (Nat.le_of_ble_eq_true rfl) dX2_kind_1

set_option maxHeartbeats 4000000 in
set_option maxRecDepth 100000 in
theorem kX3_speaksIn (l : Launch) (hl9 : l.stackTraces = false) (g : GG) (q : Nat → Nat) (k : Nat) (r9 : vw_C) (hq9 : (KW q)[k]? = some (q k, .inr (2 + k, []))) (hc9 : vwCl[2 + k]? = some r9) (f : Int32) : MC l yX3_speaksIn cX3_speaksIn 2 (some .int) 1 21 0 0 g [.ref (q k), .int f] (KW q) (rt (some (.int (spB (nI 1) f))) (KW q)) (noX) := by
  refine MC.of (by decide) (Nat.le_of_ble_eq_true rfl) ?_
  intro p9 e9 s9 m9 args9 below9 meth9 c9 A9 ls cx htab hw hl
  have hx := cx.1
  have hb := cx.2.1
  have hts := cx.2.2.2.2.1
  have hK := cx.2.2.2.2.2.2.2.1
  have hl : lv_has ls 2 [(0, .ref (q k)), (1, .int f)] := hl
  refine lv_bipush (v := 12) hx hb dX3_speaksIn_0 (by decide) ?_
  refine lv_aload_n hx hb dX3_speaksIn_2 rfl (lv_at hl 0 rfl) ?_
  refine lv_iload_n hx hb dX3_speaksIn_3 rfl (lv_at hl 1 rfl) ?_
  refine r_det (r_SU (C := r9.1) (r_at hK hc9) cx hw (kX2_speaksIn l hl9 g q k r9 hq9 hc9 f) (va_cwSU 1 hts (lw_SU q651 q1512 q139 q643 q87 q644) rfl rfl rfl (by decide +kernel) ⟨Nat.le_of_ble_eq_true rfl, Nat.le_of_ble_eq_true rfl⟩) (r_recv hK hw (k := k) (ci := 2 + k) hq9 hc9) [0, 1, 2, 3, 4, 5] rfl rfl rfl hl.1 rfl (Nat.le_of_ble_eq_true rfl) dX3_speaksIn_4 ⟨Nat.le_of_ble_eq_true rfl, Nat.le_of_ble_eq_true rfl⟩) cx hw [0, 1, 2, 3, 4, 5] rfl rfl rfl (ws' := KW q) rfl (fun H locs hw => ?_)
  refine W.eq (g2 := F0 m9 7 ls [.int (spB (nI 0) f), .int 12]) rfl ?_
  refine lv_iconst (v := 3) hx hb dX3_speaksIn_7 (by decide) ?_
  refine lv_iadd hx hb dX3_speaksIn_8 ?_
  refine va_mmin hx hb (cx.2.2.1.trans hl.1.symm) cx.2.2.2.1 (hts _ q652) (hts _ q624) (hts _ q112) (hts _ q625) (Nat.le_of_ble_eq_true rfl) (Nat.le_of_ble_eq_true rfl) (Nat.le_of_ble_eq_true rfl) (Nat.le_of_ble_eq_true rfl) dX3_speaksIn_9 ?_
  refine r_topi (x' := minI 12 ((spB (nI 0) f) + 3)) (rfl) ?_
  exact r_iret cx hw (⟨by rw [minI_leI]; rfl, rfl⟩) (Nat.le_of_ble_eq_true rfl) (Nat.le_of_ble_eq_true rfl) dX3_speaksIn_12

set_option maxHeartbeats 4000000 in
set_option maxRecDepth 100000 in
theorem kX3_drinks (l : Launch) (hl9 : l.stackTraces = false) (g : GG) (q : Nat → Nat) (k : Nat) (r9 : vw_C) (hq9 : (KW q)[k]? = some (q k, .inr (2 + k, []))) (hc9 : vwCl[2 + k]? = some r9)  : MC l yX3_drinks cX3_drinks 1 (some .int) 0 0 0 0 g [.ref (q k)] (KW q) (rt (some (.int (drB (nI 1)))) (KW q)) (noX) := by
  refine MC.of (by decide) (Nat.le_of_ble_eq_true rfl) ?_
  intro p9 e9 s9 m9 args9 below9 meth9 c9 A9 ls cx htab hw hl
  have hx := cx.1
  have hb := cx.2.1
  have hts := cx.2.2.2.2.1
  have hK := cx.2.2.2.2.2.2.2.1
  have hl : lv_has ls 1 [(0, .ref (q k))] := hl
  refine lv_iconst (v := 2) hx hb dX3_drinks_0 (by decide) ?_
  exact r_iret cx hw (⟨rfl, rfl⟩) (Nat.le_of_ble_eq_true rfl) (Nat.le_of_ble_eq_true rfl) dX3_drinks_1

set_option maxHeartbeats 4000000 in
set_option maxRecDepth 100000 in
theorem kX3_kind (l : Launch) (hl9 : l.stackTraces = false) (g : GG) (q : Nat → Nat) (k : Nat) (r9 : vw_C) (hq9 : (KW q)[k]? = some (q k, .inr (2 + k, []))) (hc9 : vwCl[2 + k]? = some r9)  : MC l yX3_kind cX3_kind 1 (some .int) 0 0 0 0 g [.ref (q k)] (KW q) (rt (some (.int (nI 1))) (KW q)) (noX) := by
  refine MC.of (by decide) (Nat.le_of_ble_eq_true rfl) ?_
  intro p9 e9 s9 m9 args9 below9 meth9 c9 A9 ls cx htab hw hl
  have hx := cx.1
  have hb := cx.2.1
  have hts := cx.2.2.2.2.1
  have hK := cx.2.2.2.2.2.2.2.1
  have hl : lv_has ls 1 [(0, .ref (q k))] := hl
  refine lv_iconst (v := 1) hx hb dX3_kind_0 (by decide) ?_
  exact r_iret cx hw (⟨rfl, rfl⟩) (Nat.le_of_ble_eq_true rfl) (Nat.le_of_ble_eq_true rfl) dX3_kind_1

set_option maxHeartbeats 4000000 in
set_option maxRecDepth 100000 in
theorem kX4_speaksIn (l : Launch) (hl9 : l.stackTraces = false) (g : GG) (q : Nat → Nat) (k : Nat) (r9 : vw_C) (hq9 : (KW q)[k]? = some (q k, .inr (2 + k, []))) (hc9 : vwCl[2 + k]? = some r9) (f : Int32) : MC l yX4_speaksIn cX4_speaksIn 2 (some .int) 0 0 0 0 g [.ref (q k), .int f] (KW q) (rt (some (.int (spB (nI 2) f))) (KW q)) (noX) := by
  refine MC.of (by decide) (Nat.le_of_ble_eq_true rfl) ?_
  intro p9 e9 s9 m9 args9 below9 meth9 c9 A9 ls cx htab hw hl
  have hx := cx.1
  have hb := cx.2.1
  have hts := cx.2.2.2.2.1
  have hK := cx.2.2.2.2.2.2.2.1
  have hl : lv_has ls 2 [(0, .ref (q k)), (1, .int f)] := hl
  refine lv_iconst (v := 0) hx hb dX4_speaksIn_0 (by decide) ?_
  exact r_iret cx hw (⟨rfl, rfl⟩) (Nat.le_of_ble_eq_true rfl) (Nat.le_of_ble_eq_true rfl) dX4_speaksIn_1

set_option maxHeartbeats 4000000 in
set_option maxRecDepth 100000 in
theorem kX4_drinks (l : Launch) (hl9 : l.stackTraces = false) (g : GG) (q : Nat → Nat) (k : Nat) (r9 : vw_C) (hq9 : (KW q)[k]? = some (q k, .inr (2 + k, []))) (hc9 : vwCl[2 + k]? = some r9)  : MC l yX4_drinks cX4_drinks 1 (some .int) 1 20 0 0 g [.ref (q k)] (KW q) (rt (some (.int (drB (nI 2)))) (KW q)) (noX) := by
  refine MC.of (by decide) (Nat.le_of_ble_eq_true rfl) ?_
  intro p9 e9 s9 m9 args9 below9 meth9 c9 A9 ls cx htab hw hl
  have hx := cx.1
  have hb := cx.2.1
  have hts := cx.2.2.2.2.1
  have hK := cx.2.2.2.2.2.2.2.1
  have hl : lv_has ls 1 [(0, .ref (q k))] := hl
  refine lv_aload_n hx hb dX4_drinks_0 rfl (lv_at hl 0 rfl) ?_
  refine r_det (r_SU (C := r9.1) (r_at hK hc9) cx hw (kX2_drinks l hl9 g q k r9 hq9 hc9 ) (va_cwSU 0 hts (lw_SU q682 q1513 q146 q683 q87 q684) rfl rfl rfl (by decide +kernel) ⟨Nat.le_of_ble_eq_true rfl, Nat.le_of_ble_eq_true rfl⟩) (r_recv hK hw (k := k) (ci := 2 + k) hq9 hc9) [0, 1, 2, 3, 4, 5] rfl rfl rfl hl.1 rfl (Nat.le_of_ble_eq_true rfl) dX4_drinks_1 ⟨Nat.le_of_ble_eq_true rfl, Nat.le_of_ble_eq_true rfl⟩) cx hw [0, 1, 2, 3, 4, 5] rfl rfl rfl (ws' := KW q) rfl (fun H locs hw => ?_)
  refine W.eq (g2 := F0 m9 4 ls [.int (drB (nI 0))]) rfl ?_
  refine lv_iconst (v := 1) hx hb dX4_drinks_4 (by decide) ?_
  refine lv_iadd hx hb dX4_drinks_5 ?_
  exact r_iret cx hw (⟨rfl, rfl⟩) (Nat.le_of_ble_eq_true rfl) (Nat.le_of_ble_eq_true rfl) dX4_drinks_6

set_option maxHeartbeats 4000000 in
set_option maxRecDepth 100000 in
theorem kX4_kind (l : Launch) (hl9 : l.stackTraces = false) (g : GG) (q : Nat → Nat) (k : Nat) (r9 : vw_C) (hq9 : (KW q)[k]? = some (q k, .inr (2 + k, []))) (hc9 : vwCl[2 + k]? = some r9)  : MC l yX4_kind cX4_kind 1 (some .int) 0 0 0 0 g [.ref (q k)] (KW q) (rt (some (.int (nI 2))) (KW q)) (noX) := by
  refine MC.of (by decide) (Nat.le_of_ble_eq_true rfl) ?_
  intro p9 e9 s9 m9 args9 below9 meth9 c9 A9 ls cx htab hw hl
  have hx := cx.1
  have hb := cx.2.1
  have hts := cx.2.2.2.2.1
  have hK := cx.2.2.2.2.2.2.2.1
  have hl : lv_has ls 1 [(0, .ref (q k))] := hl
  refine lv_iconst (v := 2) hx hb dX4_kind_0 (by decide) ?_
  exact r_iret cx hw (⟨rfl, rfl⟩) (Nat.le_of_ble_eq_true rfl) (Nat.le_of_ble_eq_true rfl) dX4_kind_1

set_option maxHeartbeats 4000000 in
set_option maxRecDepth 100000 in
theorem kX5_speaksIn (l : Launch) (hl9 : l.stackTraces = false) (g : GG) (q : Nat → Nat) (k : Nat) (r9 : vw_C) (hq9 : (KW q)[k]? = some (q k, .inr (2 + k, []))) (hc9 : vwCl[2 + k]? = some r9) (f : Int32) : MC l yX5_speaksIn cX5_speaksIn 2 (some .int) 0 0 0 0 g [.ref (q k), .int f] (KW q) (rt (some (.int (spB (nI 3) f))) (KW q)) (noX) := by
  refine MC.of (by decide) (Nat.le_of_ble_eq_true rfl) ?_
  intro p9 e9 s9 m9 args9 below9 meth9 c9 A9 ls cx htab hw hl
  have hx := cx.1
  have hb := cx.2.1
  have hts := cx.2.2.2.2.1
  have hK := cx.2.2.2.2.2.2.2.1
  have hl : lv_has ls 2 [(0, .ref (q k)), (1, .int f)] := hl
  refine lv_bipush (v := 12) hx hb dX5_speaksIn_0 (by decide) ?_
  exact r_iret cx hw (⟨rfl, rfl⟩) (Nat.le_of_ble_eq_true rfl) (Nat.le_of_ble_eq_true rfl) dX5_speaksIn_2

set_option maxHeartbeats 4000000 in
set_option maxRecDepth 100000 in
theorem kX5_kind (l : Launch) (hl9 : l.stackTraces = false) (g : GG) (q : Nat → Nat) (k : Nat) (r9 : vw_C) (hq9 : (KW q)[k]? = some (q k, .inr (2 + k, []))) (hc9 : vwCl[2 + k]? = some r9)  : MC l yX5_kind cX5_kind 1 (some .int) 0 0 0 0 g [.ref (q k)] (KW q) (rt (some (.int (nI 3))) (KW q)) (noX) := by
  refine MC.of (by decide) (Nat.le_of_ble_eq_true rfl) ?_
  intro p9 e9 s9 m9 args9 below9 meth9 c9 A9 ls cx htab hw hl
  have hx := cx.1
  have hb := cx.2.1
  have hts := cx.2.2.2.2.1
  have hK := cx.2.2.2.2.2.2.2.1
  have hl : lv_has ls 1 [(0, .ref (q k))] := hl
  refine lv_iconst (v := 3) hx hb dX5_kind_0 (by decide) ?_
  exact r_iret cx hw (⟨rfl, rfl⟩) (Nat.le_of_ble_eq_true rfl) (Nat.le_of_ble_eq_true rfl) dX5_kind_1

set_option maxHeartbeats 4000000 in
set_option maxRecDepth 100000 in
theorem kX6_speaksIn (l : Launch) (hl9 : l.stackTraces = false) (g : GG) (q : Nat → Nat) (k : Nat) (r9 : vw_C) (hq9 : (KW q)[k]? = some (q k, .inr (2 + k, []))) (hc9 : vwCl[2 + k]? = some r9) (f : Int32) : MC l yX6_speaksIn cX6_speaksIn 2 (some .int) 2 42 0 0 g [.ref (q k), .int f] (KW q) (rt (some (.int (spB (nI 4) f))) (KW q)) (noX) := by
  refine MC.of (by decide) (Nat.le_of_ble_eq_true rfl) ?_
  intro p9 e9 s9 m9 args9 below9 meth9 c9 A9 ls cx htab hw hl
  have hx := cx.1
  have hb := cx.2.1
  have hts := cx.2.2.2.2.1
  have hK := cx.2.2.2.2.2.2.2.1
  have hl : lv_has ls 2 [(0, .ref (q k)), (1, .int f)] := hl
  refine lv_bipush (v := 12) hx hb dX6_speaksIn_0 (by decide) ?_
  refine lv_iconst (v := 2) hx hb dX6_speaksIn_2 (by decide) ?_
  refine lv_aload_n hx hb dX6_speaksIn_3 rfl (lv_at hl 0 rfl) ?_
  refine lv_iload_n hx hb dX6_speaksIn_4 rfl (lv_at hl 1 rfl) ?_
  refine r_det (r_SU (C := r9.1) (r_at hK hc9) cx hw (kX3_speaksIn l hl9 g q k r9 hq9 hc9 f) (va_cwSU 1 hts (lw_SU q648 q1511 q160 q649 q88 q650) rfl rfl rfl (by decide +kernel) ⟨Nat.le_of_ble_eq_true rfl, Nat.le_of_ble_eq_true rfl⟩) (r_recv hK hw (k := k) (ci := 2 + k) hq9 hc9) [0, 1, 2, 3, 4, 5] rfl rfl rfl hl.1 rfl (Nat.le_of_ble_eq_true rfl) dX6_speaksIn_5 ⟨Nat.le_of_ble_eq_true rfl, Nat.le_of_ble_eq_true rfl⟩) cx hw [0, 1, 2, 3, 4, 5] rfl rfl rfl (ws' := KW q) rfl (fun H locs hw => ?_)
  refine W.eq (g2 := F0 m9 8 ls [.int (spB (nI 1) f), .int 2, .int 12]) rfl ?_
  refine lv_imul hx hb dX6_speaksIn_8 ?_
  refine va_mmin hx hb (cx.2.2.1.trans hl.1.symm) cx.2.2.2.1 (hts _ q653) (hts _ q624) (hts _ q112) (hts _ q625) (Nat.le_of_ble_eq_true rfl) (Nat.le_of_ble_eq_true rfl) (Nat.le_of_ble_eq_true rfl) (Nat.le_of_ble_eq_true rfl) dX6_speaksIn_9 ?_
  refine r_topi (x' := minI 12 (2 * (spB (nI 1) f))) (rfl) ?_
  exact r_iret cx hw (⟨by rw [minI_leI]; rfl, rfl⟩) (Nat.le_of_ble_eq_true rfl) (Nat.le_of_ble_eq_true rfl) dX6_speaksIn_12

set_option maxHeartbeats 4000000 in
set_option maxRecDepth 100000 in
theorem kX6_drinks (l : Launch) (hl9 : l.stackTraces = false) (g : GG) (q : Nat → Nat) (k : Nat) (r9 : vw_C) (hq9 : (KW q)[k]? = some (q k, .inr (2 + k, []))) (hc9 : vwCl[2 + k]? = some r9)  : MC l yX6_drinks cX6_drinks 1 (some .int) 1 20 0 0 g [.ref (q k)] (KW q) (rt (some (.int (drB (nI 4)))) (KW q)) (noX) := by
  refine MC.of (by decide) (Nat.le_of_ble_eq_true rfl) ?_
  intro p9 e9 s9 m9 args9 below9 meth9 c9 A9 ls cx htab hw hl
  have hx := cx.1
  have hb := cx.2.1
  have hts := cx.2.2.2.2.1
  have hK := cx.2.2.2.2.2.2.2.1
  have hl : lv_has ls 1 [(0, .ref (q k))] := hl
  refine lv_aload_n hx hb dX6_drinks_0 rfl (lv_at hl 0 rfl) ?_
  refine r_det (r_SU (C := r9.1) (r_at hK hc9) cx hw (kX3_drinks l hl9 g q k r9 hq9 hc9 ) (va_cwSU 0 hts (lw_SU q692 q1514 q160 q686 q88 q687) rfl rfl rfl (by decide +kernel) ⟨Nat.le_of_ble_eq_true rfl, Nat.le_of_ble_eq_true rfl⟩) (r_recv hK hw (k := k) (ci := 2 + k) hq9 hc9) [0, 1, 2, 3, 4, 5] rfl rfl rfl hl.1 rfl (Nat.le_of_ble_eq_true rfl) dX6_drinks_1 ⟨Nat.le_of_ble_eq_true rfl, Nat.le_of_ble_eq_true rfl⟩) cx hw [0, 1, 2, 3, 4, 5] rfl rfl rfl (ws' := KW q) rfl (fun H locs hw => ?_)
  refine W.eq (g2 := F0 m9 4 ls [.int (drB (nI 1))]) rfl ?_
  refine lv_iconst (v := 1) hx hb dX6_drinks_4 (by decide) ?_
  refine lv_isub hx hb dX6_drinks_5 ?_
  exact r_iret cx hw (⟨rfl, rfl⟩) (Nat.le_of_ble_eq_true rfl) (Nat.le_of_ble_eq_true rfl) dX6_drinks_6

set_option maxHeartbeats 4000000 in
set_option maxRecDepth 100000 in
theorem kX6_kind (l : Launch) (hl9 : l.stackTraces = false) (g : GG) (q : Nat → Nat) (k : Nat) (r9 : vw_C) (hq9 : (KW q)[k]? = some (q k, .inr (2 + k, []))) (hc9 : vwCl[2 + k]? = some r9)  : MC l yX6_kind cX6_kind 1 (some .int) 0 0 0 0 g [.ref (q k)] (KW q) (rt (some (.int (nI 4))) (KW q)) (noX) := by
  refine MC.of (by decide) (Nat.le_of_ble_eq_true rfl) ?_
  intro p9 e9 s9 m9 args9 below9 meth9 c9 A9 ls cx htab hw hl
  have hx := cx.1
  have hb := cx.2.1
  have hts := cx.2.2.2.2.1
  have hK := cx.2.2.2.2.2.2.2.1
  have hl : lv_has ls 1 [(0, .ref (q k))] := hl
  refine lv_iconst (v := 4) hx hb dX6_kind_0 (by decide) ?_
  exact r_iret cx hw (⟨rfl, rfl⟩) (Nat.le_of_ble_eq_true rfl) (Nat.le_of_ble_eq_true rfl) dX6_kind_1

set_option maxHeartbeats 4000000 in
set_option maxRecDepth 100000 in
theorem kX7_drawsSpoken (l : Launch) (hl9 : l.stackTraces = false) (g : GG) (q : Nat → Nat) (k : Nat) (r9 : vw_C) (hq9 : (KW q)[k]? = some (q k, .inr (2 + k, []))) (hc9 : vwCl[2 + k]? = some r9)  : MC l yX7_drawsSpoken cX7_drawsSpoken 1 (some .boolean) 0 0 0 0 g [.ref (q k)] (KW q) (rt (some (.int (1))) (KW q)) (noX) := by
  refine MC.of (by decide) (Nat.le_of_ble_eq_true rfl) ?_
  intro p9 e9 s9 m9 args9 below9 meth9 c9 A9 ls cx htab hw hl
  have hx := cx.1
  have hb := cx.2.1
  have hts := cx.2.2.2.2.1
  have hK := cx.2.2.2.2.2.2.2.1
  have hl : lv_has ls 1 [(0, .ref (q k))] := hl
  refine lv_iconst (v := 1) hx hb dX7_drawsSpoken_0 (by decide) ?_
  exact r_zret (by decide) cx hw (⟨rfl, rfl⟩) (Nat.le_of_ble_eq_true rfl) (Nat.le_of_ble_eq_true rfl) dX7_drawsSpoken_1

set_option maxHeartbeats 4000000 in
set_option maxRecDepth 100000 in
theorem kX7_kind (l : Launch) (hl9 : l.stackTraces = false) (g : GG) (q : Nat → Nat) (k : Nat) (r9 : vw_C) (hq9 : (KW q)[k]? = some (q k, .inr (2 + k, []))) (hc9 : vwCl[2 + k]? = some r9)  : MC l yX7_kind cX7_kind 1 (some .int) 0 0 0 0 g [.ref (q k)] (KW q) (rt (some (.int (nI 5))) (KW q)) (noX) := by
  refine MC.of (by decide) (Nat.le_of_ble_eq_true rfl) ?_
  intro p9 e9 s9 m9 args9 below9 meth9 c9 A9 ls cx htab hw hl
  have hx := cx.1
  have hb := cx.2.1
  have hts := cx.2.2.2.2.1
  have hK := cx.2.2.2.2.2.2.2.1
  have hl : lv_has ls 1 [(0, .ref (q k))] := hl
  refine lv_iconst (v := 5) hx hb dX7_kind_0 (by decide) ?_
  exact r_iret cx hw (⟨rfl, rfl⟩) (Nat.le_of_ble_eq_true rfl) (Nat.le_of_ble_eq_true rfl) dX7_kind_1

set_option maxHeartbeats 4000000 in
set_option maxRecDepth 100000 in
theorem kX1_drawsSpoken (l : Launch) (hl9 : l.stackTraces = false) (g : GG) (q : Nat → Nat) (k : Nat) (r9 : vw_C) (hq9 : (KW q)[k]? = some (q k, .inr (2 + k, []))) (hc9 : vwCl[2 + k]? = some r9)  : MC l yX1_drawsSpoken cX1_drawsSpoken 1 (some .boolean) 0 0 0 0 g [.ref (q k)] (KW q) (rt (some (.int (0))) (KW q)) (noX) := by
  refine MC.of (by decide) (Nat.le_of_ble_eq_true rfl) ?_
  intro p9 e9 s9 m9 args9 below9 meth9 c9 A9 ls cx htab hw hl
  have hx := cx.1
  have hb := cx.2.1
  have hts := cx.2.2.2.2.1
  have hK := cx.2.2.2.2.2.2.2.1
  have hl : lv_has ls 1 [(0, .ref (q k))] := hl
  refine lv_iconst (v := 0) hx hb dX1_drawsSpoken_0 (by decide) ?_
  exact r_zret (by decide) cx hw (⟨rfl, rfl⟩) (Nat.le_of_ble_eq_true rfl) (Nat.le_of_ble_eq_true rfl) dX1_drawsSpoken_1
