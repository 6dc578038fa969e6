/-! the hill: its methods, 3 -/
set_option maxRecDepth 100000
set_option maxHeartbeats 4000000 in
set_option maxRecDepth 100000 in
theorem kX8_set (l : Launch) (hl9 : l.stackTraces = false) (g : GG) (b c q : Nat → Nat) (rm r : Nat → Int32) (zm z : Int32) (hI : InvX r) (h4 : r 4 = 0)  : MC l yX8_set cX8_set 2 (some (.object "WellOfTheSilent$Hill")) 1 60 0 0 g [.ref (b 0), .ref (c 0)] (HXs g b q rm zm ++ HX g c q r z) (rt (some (.ref (b 0))) (HXs g b q r 0 ++ HX g c q r z)) (noX) := by
  refine MC.of (by decide) (Nat.le_of_ble_eq_true rfl) ?_
  intro p9 e9 s9 m9 args9 below9 meth9 c9 A9 ls cx htab hw hl
  have hx := cx.1
  have hb := cx.2.1
  have hts := cx.2.2.2.2.1
  have hK := cx.2.2.2.2.2.2.2.1
  have hl : lv_has ls 2 [(0, .ref (b 0)), (1, .ref (c 0))] := hl
  have hw : WS g A9 s9.heap (HGs g b (rm 0) (flgF rm 4) (flgF rm 5) (rm 2) (rm 3) (rm 1) (rm 4) zm (kdc q rm) (colv rm 1) (colv rm 2) (colv rm 3) (colv rm 6) ++ HG g c q (r 0) (flgF r 4) (flgF r 5) (r 2) (r 3) (r 1) (r 4) z (kdc q r) (colv r 1) (colv r 2) (colv r 3) (colv r 6)) s9.heap [] := hw
  refine lv_aload_n hx hb dX8_set_0 rfl (lv_at hl 0 rfl) ?_
  refine lv_aload_n hx hb dX8_set_1 rfl (lv_at hl 1 rfl) ?_
  refine r_get cx hw in_X8 6 (ci := 1) (T := TX8) (N := 13) rfl rfl 0 (by decide) q176 (fun _ h9 => h9) rfl dX8_set_2 ?_
  refine r_put cx hw in_X8 tyX8 tyX8_ok nmX8 0 (ci := 1) (T := TX8) (N := 13) rfl rfl 0 (by decide) q176 (fun _ h9 => h9) rfl (rfl) (rfl) (Nat.le_of_ble_eq_true rfl) dX8_set_5 (fun H locs hw => ?_)
  have hw : WS g A9 s9.heap (HGs g b (r 0) (flgF rm 4) (flgF rm 5) (rm 2) (rm 3) (rm 1) (rm 4) zm (kdc q rm) (colv rm 1) (colv rm 2) (colv rm 3) (colv rm 6) ++ HG g c q (r 0) (flgF r 4) (flgF r 5) (r 2) (r 3) (r 1) (r 4) z (kdc q r) (colv r 1) (colv r 2) (colv r 3) (colv r 6)) H locs := hw
  refine lv_aload_n hx hb dX8_set_8 rfl (lv_at hl 0 rfl) ?_
  refine lv_aload_n hx hb dX8_set_9 rfl (lv_at hl 1 rfl) ?_
  refine r_get cx hw in_X8 6 (ci := 1) (T := TX8) (N := 13) rfl rfl 6 (by decide) q192 (fun _ h9 => h9) rfl dX8_set_10 ?_
  refine r_put cx hw in_X8 tyX8 tyX8_ok nmX8 0 (ci := 1) (T := TX8) (N := 13) rfl rfl 6 (by decide) q192 (fun _ h9 => h9) rfl (rfl) (rfl) (Nat.le_of_ble_eq_true rfl) dX8_set_13 (fun H locs hw => ?_)
  have hw : WS g A9 s9.heap (HGs g b (r 0) (flgF r 4) (flgF rm 5) (rm 2) (rm 3) (rm 1) (rm 4) zm (kdc q rm) (colv rm 1) (colv rm 2) (colv rm 3) (colv rm 6) ++ HG g c q (r 0) (flgF r 4) (flgF r 5) (r 2) (r 3) (r 1) (r 4) z (kdc q r) (colv r 1) (colv r 2) (colv r 3) (colv r 6)) H locs := hw
  refine lv_aload_n hx hb dX8_set_16 rfl (lv_at hl 0 rfl) ?_
  refine lv_aload_n hx hb dX8_set_17 rfl (lv_at hl 1 rfl) ?_
  refine r_get cx hw in_X8 6 (ci := 1) (T := TX8) (N := 13) rfl rfl 7 (by decide) q194 (fun _ h9 => h9) rfl dX8_set_18 ?_
  refine r_put cx hw in_X8 tyX8 tyX8_ok nmX8 0 (ci := 1) (T := TX8) (N := 13) rfl rfl 7 (by decide) q194 (fun _ h9 => h9) rfl (rfl) (rfl) (Nat.le_of_ble_eq_true rfl) dX8_set_21 (fun H locs hw => ?_)
  have hw : WS g A9 s9.heap (HGs g b (r 0) (flgF r 4) (flgF r 5) (rm 2) (rm 3) (rm 1) (rm 4) zm (kdc q rm) (colv rm 1) (colv rm 2) (colv rm 3) (colv rm 6) ++ HG g c q (r 0) (flgF r 4) (flgF r 5) (r 2) (r 3) (r 1) (r 4) z (kdc q r) (colv r 1) (colv r 2) (colv r 3) (colv r 6)) H locs := hw
  refine lv_aload_n hx hb dX8_set_24 rfl (lv_at hl 0 rfl) ?_
  refine lv_aload_n hx hb dX8_set_25 rfl (lv_at hl 1 rfl) ?_
  refine r_get cx hw in_X8 6 (ci := 1) (T := TX8) (N := 13) rfl rfl 8 (by decide) q196 (fun _ h9 => h9) rfl dX8_set_26 ?_
  refine r_put cx hw in_X8 tyX8 tyX8_ok nmX8 0 (ci := 1) (T := TX8) (N := 13) rfl rfl 8 (by decide) q196 (fun _ h9 => h9) rfl (rfl) (rfl) (Nat.le_of_ble_eq_true rfl) dX8_set_29 (fun H locs hw => ?_)
  have hw : WS g A9 s9.heap (HGs g b (r 0) (flgF r 4) (flgF r 5) (r 2) (rm 3) (rm 1) (rm 4) zm (kdc q rm) (colv rm 1) (colv rm 2) (colv rm 3) (colv rm 6) ++ HG g c q (r 0) (flgF r 4) (flgF r 5) (r 2) (r 3) (r 1) (r 4) z (kdc q r) (colv r 1) (colv r 2) (colv r 3) (colv r 6)) H locs := hw
  refine lv_aload_n hx hb dX8_set_32 rfl (lv_at hl 0 rfl) ?_
  refine lv_aload_n hx hb dX8_set_33 rfl (lv_at hl 1 rfl) ?_
  refine r_get cx hw in_X8 6 (ci := 1) (T := TX8) (N := 13) rfl rfl 9 (by decide) q199 (fun _ h9 => h9) rfl dX8_set_34 ?_
  refine r_put cx hw in_X8 tyX8 tyX8_ok nmX8 0 (ci := 1) (T := TX8) (N := 13) rfl rfl 9 (by decide) q199 (fun _ h9 => h9) rfl (rfl) (rfl) (Nat.le_of_ble_eq_true rfl) dX8_set_37 (fun H locs hw => ?_)
  have hw : WS g A9 s9.heap (HGs g b (r 0) (flgF r 4) (flgF r 5) (r 2) (r 3) (rm 1) (rm 4) zm (kdc q rm) (colv rm 1) (colv rm 2) (colv rm 3) (colv rm 6) ++ HG g c q (r 0) (flgF r 4) (flgF r 5) (r 2) (r 3) (r 1) (r 4) z (kdc q r) (colv r 1) (colv r 2) (colv r 3) (colv r 6)) H locs := hw
  refine lv_aload_n hx hb dX8_set_40 rfl (lv_at hl 0 rfl) ?_
  refine lv_aload_n hx hb dX8_set_41 rfl (lv_at hl 1 rfl) ?_
  refine r_get cx hw in_X8 6 (ci := 1) (T := TX8) (N := 13) rfl rfl 10 (by decide) q203 (fun _ h9 => h9) rfl dX8_set_42 ?_
  refine r_put cx hw in_X8 tyX8 tyX8_ok nmX8 0 (ci := 1) (T := TX8) (N := 13) rfl rfl 10 (by decide) q203 (fun _ h9 => h9) rfl (rfl) (rfl) (Nat.le_of_ble_eq_true rfl) dX8_set_45 (fun H locs hw => ?_)
  have hw : WS g A9 s9.heap (HGs g b (r 0) (flgF r 4) (flgF r 5) (r 2) (r 3) (r 1) (rm 4) zm (kdc q rm) (colv rm 1) (colv rm 2) (colv rm 3) (colv rm 6) ++ HG g c q (r 0) (flgF r 4) (flgF r 5) (r 2) (r 3) (r 1) (r 4) z (kdc q r) (colv r 1) (colv r 2) (colv r 3) (colv r 6)) H locs := hw
  refine lv_aload_n hx hb dX8_set_48 rfl (lv_at hl 0 rfl) ?_
  refine lv_iconst (v := 0) hx hb dX8_set_49 (by decide) ?_
  refine r_put cx hw in_X8 tyX8 tyX8_ok nmX8 0 (ci := 1) (T := TX8) (N := 13) rfl rfl 11 (by decide) q205 (fun _ h9 => h9) rfl (rfl) (rfl) (Nat.le_of_ble_eq_true rfl) dX8_set_50 (fun H locs hw => ?_)
  have hw : WS g A9 s9.heap (HGs g b (r 0) (flgF r 4) (flgF r 5) (r 2) (r 3) (r 1) 0 zm (kdc q rm) (colv rm 1) (colv rm 2) (colv rm 3) (colv rm 6) ++ HG g c q (r 0) (flgF r 4) (flgF r 5) (r 2) (r 3) (r 1) (r 4) z (kdc q r) (colv r 1) (colv r 2) (colv r 3) (colv r 6)) H locs := hw
  refine lv_aload_n hx hb dX8_set_53 rfl (lv_at hl 0 rfl) ?_
  refine lv_iconst (v := 0) hx hb dX8_set_54 (by decide) ?_
  refine r_put cx hw in_X8 tyX8 tyX8_ok nmX8 0 (ci := 1) (T := TX8) (N := 13) rfl rfl 12 (by decide) q207 (fun _ h9 => h9) rfl (rfl) (rfl) (Nat.le_of_ble_eq_true rfl) dX8_set_55 (fun H locs hw => ?_)
  have hw : WS g A9 s9.heap (HGs g b (r 0) (flgF r 4) (flgF r 5) (r 2) (r 3) (r 1) 0 0 (kdc q rm) (colv rm 1) (colv rm 2) (colv rm 3) (colv rm 6) ++ HG g c q (r 0) (flgF r 4) (flgF r 5) (r 2) (r 3) (r 1) (r 4) z (kdc q r) (colv r 1) (colv r 2) (colv r 3) (colv r 6)) H locs := hw
  refine lv_aload_n hx hb dX8_set_58 rfl (lv_at hl 1 rfl) ?_
  refine r_get cx hw in_X8 6 (ci := 1) (T := TX8) (N := 13) rfl rfl 1 (by decide) q179 (fun _ h9 => h9) rfl dX8_set_59 ?_
  refine lv_iconst (v := 0) hx hb dX8_set_62 (by decide) ?_
  refine lv_aload_n hx hb dX8_set_63 rfl (lv_at hl 0 rfl) ?_
  refine r_get cx hw in_X8 0 (ci := 1) (T := TX8) (N := 13) rfl rfl 1 (by decide) q179 (fun _ h9 => h9) rfl dX8_set_64 ?_
  refine lv_iconst (v := 0) hx hb dX8_set_67 (by decide) ?_
  refine lv_bipush (v := 6) hx hb dX8_set_68 (by decide) ?_
  refine r_cpk cx hw hl.1 q564 7 1 hI (kb := 12) (fun i hi => by match i, hi with | 0, _ => rfl | 1, _ => rfl | 2, _ => rfl | 3, _ => rfl | 4, _ => rfl | 5, _ => rfl | n + 6, h => exact absurd h (by omega)) rfl rfl (Nat.le_of_ble_eq_true rfl) (by decide +kernel) dX8_set_70 (fun H locs hw => ?_)
  have hw : WS g A9 s9.heap (HGs g b (r 0) (flgF r 4) (flgF r 5) (r 2) (r 3) (r 1) 0 0 (kdc q r) (colv rm 1) (colv rm 2) (colv rm 3) (colv rm 6) ++ HG g c q (r 0) (flgF r 4) (flgF r 5) (r 2) (r 3) (r 1) (r 4) z (kdc q r) (colv r 1) (colv r 2) (colv r 3) (colv r 6)) H locs := hw
  refine lv_aload_n hx hb dX8_set_73 rfl (lv_at hl 1 rfl) ?_
  refine r_get cx hw in_X8 6 (ci := 1) (T := TX8) (N := 13) rfl rfl 2 (by decide) q181 (fun _ h9 => h9) rfl dX8_set_74 ?_
  refine lv_iconst (v := 0) hx hb dX8_set_77 (by decide) ?_
  refine lv_aload_n hx hb dX8_set_78 rfl (lv_at hl 0 rfl) ?_
  refine r_get cx hw in_X8 0 (ci := 1) (T := TX8) (N := 13) rfl rfl 2 (by decide) q181 (fun _ h9 => h9) rfl dX8_set_79 ?_
  refine lv_iconst (v := 0) hx hb dX8_set_82 (by decide) ?_
  refine lv_bipush (v := 6) hx hb dX8_set_83 (by decide) ?_
  refine r_cpi cx hw hl.1 q564 8 2 rfl rfl (Nat.le_of_ble_eq_true rfl) (by decide +kernel) dX8_set_85 (fun H locs hw => ?_)
  have hw : WS g A9 s9.heap (HGs g b (r 0) (flgF r 4) (flgF r 5) (r 2) (r 3) (r 1) 0 0 (kdc q r) (colv r 1) (colv rm 2) (colv rm 3) (colv rm 6) ++ HG g c q (r 0) (flgF r 4) (flgF r 5) (r 2) (r 3) (r 1) (r 4) z (kdc q r) (colv r 1) (colv r 2) (colv r 3) (colv r 6)) H locs := hw
  refine lv_aload_n hx hb dX8_set_88 rfl (lv_at hl 1 rfl) ?_
  refine r_get cx hw in_X8 6 (ci := 1) (T := TX8) (N := 13) rfl rfl 3 (by decide) q183 (fun _ h9 => h9) rfl dX8_set_89 ?_
  refine lv_iconst (v := 0) hx hb dX8_set_92 (by decide) ?_
  refine lv_aload_n hx hb dX8_set_93 rfl (lv_at hl 0 rfl) ?_
  refine r_get cx hw in_X8 0 (ci := 1) (T := TX8) (N := 13) rfl rfl 3 (by decide) q183 (fun _ h9 => h9) rfl dX8_set_94 ?_
  refine lv_iconst (v := 0) hx hb dX8_set_97 (by decide) ?_
  refine lv_bipush (v := 6) hx hb dX8_set_98 (by decide) ?_
  refine r_cpi cx hw hl.1 q564 9 3 rfl rfl (Nat.le_of_ble_eq_true rfl) (by decide +kernel) dX8_set_100 (fun H locs hw => ?_)
  have hw : WS g A9 s9.heap (HGs g b (r 0) (flgF r 4) (flgF r 5) (r 2) (r 3) (r 1) 0 0 (kdc q r) (colv r 1) (colv r 2) (colv rm 3) (colv rm 6) ++ HG g c q (r 0) (flgF r 4) (flgF r 5) (r 2) (r 3) (r 1) (r 4) z (kdc q r) (colv r 1) (colv r 2) (colv r 3) (colv r 6)) H locs := hw
  refine lv_aload_n hx hb dX8_set_103 rfl (lv_at hl 1 rfl) ?_
  refine r_get cx hw in_X8 6 (ci := 1) (T := TX8) (N := 13) rfl rfl 4 (by decide) q185 (fun _ h9 => h9) rfl dX8_set_104 ?_
  refine lv_iconst (v := 0) hx hb dX8_set_107 (by decide) ?_
  refine lv_aload_n hx hb dX8_set_108 rfl (lv_at hl 0 rfl) ?_
  refine r_get cx hw in_X8 0 (ci := 1) (T := TX8) (N := 13) rfl rfl 4 (by decide) q185 (fun _ h9 => h9) rfl dX8_set_109 ?_
  refine lv_iconst (v := 0) hx hb dX8_set_112 (by decide) ?_
  refine lv_bipush (v := 6) hx hb dX8_set_113 (by decide) ?_
  refine r_cpi cx hw hl.1 q564 10 4 rfl rfl (Nat.le_of_ble_eq_true rfl) (by decide +kernel) dX8_set_115 (fun H locs hw => ?_)
  have hw : WS g A9 s9.heap (HGs g b (r 0) (flgF r 4) (flgF r 5) (r 2) (r 3) (r 1) 0 0 (kdc q r) (colv r 1) (colv r 2) (colv r 3) (colv rm 6) ++ HG g c q (r 0) (flgF r 4) (flgF r 5) (r 2) (r 3) (r 1) (r 4) z (kdc q r) (colv r 1) (colv r 2) (colv r 3) (colv r 6)) H locs := hw
  refine lv_aload_n hx hb dX8_set_118 rfl (lv_at hl 1 rfl) ?_
  refine r_get cx hw in_X8 6 (ci := 1) (T := TX8) (N := 13) rfl rfl 5 (by decide) q188 (fun _ h9 => h9) rfl dX8_set_119 ?_
  refine lv_iconst (v := 0) hx hb dX8_set_122 (by decide) ?_
  refine lv_aload_n hx hb dX8_set_123 rfl (lv_at hl 0 rfl) ?_
  refine r_get cx hw in_X8 0 (ci := 1) (T := TX8) (N := 13) rfl rfl 5 (by decide) q188 (fun _ h9 => h9) rfl dX8_set_124 ?_
  refine lv_iconst (v := 0) hx hb dX8_set_127 (by decide) ?_
  refine lv_bipush (v := 6) hx hb dX8_set_128 (by decide) ?_
  refine r_cpi cx hw hl.1 q564 11 5 rfl rfl (Nat.le_of_ble_eq_true rfl) (by decide +kernel) dX8_set_130 (fun H locs hw => ?_)
  have hw : WS g A9 s9.heap (HGs g b (r 0) (flgF r 4) (flgF r 5) (r 2) (r 3) (r 1) 0 0 (kdc q r) (colv r 1) (colv r 2) (colv r 3) (colv r 6) ++ HG g c q (r 0) (flgF r 4) (flgF r 5) (r 2) (r 3) (r 1) (r 4) z (kdc q r) (colv r 1) (colv r 2) (colv r 3) (colv r 6)) H locs := hw
  refine lv_aload_n hx hb dX8_set_133 rfl (lv_at hl 0 rfl) ?_
  exact r_aret cx hw (⟨rfl, by rw [← HXs_0 h4]; rfl⟩) (Nat.le_of_ble_eq_true rfl) (Nat.le_of_ble_eq_true rfl) dX8_set_134

set_option maxHeartbeats 4000000 in
set_option maxRecDepth 100000 in
theorem kX8_comes (l : Launch) (hl9 : l.stackTraces = false) (g : GG) (b q : Nat → Nat) (r : Nat → Int32) (z : Int32) (hI : InvX r) (h6 : nN r < 6) (k : Nat) (hk : k < 6) (n1 n2 : Int32) (h1 : okw 1 n1) (h2 : okw 2 n2) : MC l yX8_comes cX8_comes 4 none 0 0 0 0 g [.ref (b 0), .ref (q k), .int n1, .int n2] (HX g b q r z) (rt none (HX g b q (addF r (nI k) n1 n2) z)) (noX) := by
  refine MC.of (by decide) (Nat.le_of_ble_eq_true rfl) ?_
  intro p9 e9 s9 m9 args9 below9 meth9 c9 A9 ls cx htab hw hl
  have hx := cx.1
  have hb := cx.2.1
  have hts := cx.2.2.2.2.1
  have hK := cx.2.2.2.2.2.2.2.1
  have hl : lv_has ls 4 [(0, .ref (b 0)), (1, .ref (q k)), (2, .int n1), (3, .int n2)] := hl
  have hw : WS g A9 s9.heap (HG g b q (r 0) (flgF r 4) (flgF r 5) (r 2) (r 3) (r 1) (r 4) z (kdc q r) (colv r 1) (colv r 2) (colv r 3) (colv r 6)) s9.heap [] := hw
  have hN := hI.1.1
  refine lv_aload_n hx hb dX8_comes_0 rfl (lv_at hl 0 rfl) ?_
  refine r_get cx hw in_X8 0 (ci := 1) (T := TX8) (N := 13) rfl rfl 1 (by decide) q179 (fun _ h9 => h9) rfl dX8_comes_1 ?_
  refine lv_aload_n hx hb dX8_comes_4 rfl (lv_at hl 0 rfl) ?_
  refine r_get cx hw in_X8 0 (ci := 1) (T := TX8) (N := 13) rfl rfl 0 (by decide) q176 (fun _ h9 => h9) rfl dX8_comes_5 ?_
  refine r_topi (x' := nI (nN r)) (hI.1.2.1) ?_
  refine lv_aload_n hx hb dX8_comes_8 rfl (lv_at hl 1 rfl) ?_
  refine r_astK cx hw 1 rfl (nN r) rfl (by omega) (Nat.le_of_ble_eq_true rfl) (kind_any (kb := 6) hk hK hw (fun i hi => by match i, hi with | 0, _ => rfl | 1, _ => rfl | 2, _ => rfl | 3, _ => rfl | 4, _ => rfl | 5, _ => rfl | n + 6, h => exact absurd h (by omega))) dX8_comes_9 (fun H locs hw => ?_)
  have hw : WS g A9 s9.heap (HG g b q (r 0) (flgF r 4) (flgF r 5) (r 2) (r 3) (r 1) (r 4) z (fun y => if y = nN r then some (q k) else (kdc q r) y) (colv r 1) (colv r 2) (colv r 3) (colv r 6)) H locs := hw
  refine lv_aload_n hx hb dX8_comes_10 rfl (lv_at hl 0 rfl) ?_
  refine r_get cx hw in_X8 0 (ci := 1) (T := TX8) (N := 13) rfl rfl 2 (by decide) q181 (fun _ h9 => h9) rfl dX8_comes_11 ?_
  refine lv_aload_n hx hb dX8_comes_14 rfl (lv_at hl 0 rfl) ?_
  refine r_get cx hw in_X8 0 (ci := 1) (T := TX8) (N := 13) rfl rfl 0 (by decide) q176 (fun _ h9 => h9) rfl dX8_comes_15 ?_
  refine r_topi (x' := nI (nN r)) (hI.1.2.1) ?_
  refine lv_iload_n hx hb dX8_comes_18 rfl (lv_at hl 2 rfl) ?_
  refine r_iast cx hw 2 rfl (nN r) rfl (by omega) (Nat.le_of_ble_eq_true rfl) dX8_comes_19 (fun H locs hw => ?_)
  have hw : WS g A9 s9.heap (HG g b q (r 0) (flgF r 4) (flgF r 5) (r 2) (r 3) (r 1) (r 4) z (fun y => if y = nN r then some (q k) else (kdc q r) y) (upd (colv r 1) (nN r) n1) (colv r 2) (colv r 3) (colv r 6)) H locs := hw
  refine lv_aload_n hx hb dX8_comes_20 rfl (lv_at hl 0 rfl) ?_
  refine r_get cx hw in_X8 0 (ci := 1) (T := TX8) (N := 13) rfl rfl 3 (by decide) q183 (fun _ h9 => h9) rfl dX8_comes_21 ?_
  refine lv_aload_n hx hb dX8_comes_24 rfl (lv_at hl 0 rfl) ?_
  refine r_get cx hw in_X8 0 (ci := 1) (T := TX8) (N := 13) rfl rfl 0 (by decide) q176 (fun _ h9 => h9) rfl dX8_comes_25 ?_
  refine r_topi (x' := nI (nN r)) (hI.1.2.1) ?_
  refine lv_iload_n hx hb dX8_comes_28 rfl (lv_at hl 3 rfl) ?_
  refine r_iast cx hw 3 rfl (nN r) rfl (by omega) (Nat.le_of_ble_eq_true rfl) dX8_comes_29 (fun H locs hw => ?_)
  have hw : WS g A9 s9.heap (HG g b q (r 0) (flgF r 4) (flgF r 5) (r 2) (r 3) (r 1) (r 4) z (fun y => if y = nN r then some (q k) else (kdc q r) y) (upd (colv r 1) (nN r) n1) (upd (colv r 2) (nN r) n2) (colv r 3) (colv r 6)) H locs := hw
  refine lv_aload_n hx hb dX8_comes_30 rfl (lv_at hl 0 rfl) ?_
  refine r_get cx hw in_X8 0 (ci := 1) (T := TX8) (N := 13) rfl rfl 4 (by decide) q185 (fun _ h9 => h9) rfl dX8_comes_31 ?_
  refine lv_aload_n hx hb dX8_comes_34 rfl (lv_at hl 0 rfl) ?_
  refine r_get cx hw in_X8 0 (ci := 1) (T := TX8) (N := 13) rfl rfl 0 (by decide) q176 (fun _ h9 => h9) rfl dX8_comes_35 ?_
  refine r_topi (x' := nI (nN r)) (hI.1.2.1) ?_
  refine lv_iconst (v := 5) hx hb dX8_comes_38 (by decide) ?_
  refine r_iast cx hw 4 rfl (nN r) rfl (by omega) (Nat.le_of_ble_eq_true rfl) dX8_comes_39 (fun H locs hw => ?_)
  have hw : WS g A9 s9.heap (HG g b q (r 0) (flgF r 4) (flgF r 5) (r 2) (r 3) (r 1) (r 4) z (fun y => if y = nN r then some (q k) else (kdc q r) y) (upd (colv r 1) (nN r) n1) (upd (colv r 2) (nN r) n2) (upd (colv r 3) (nN r) 5) (colv r 6)) H locs := hw
  refine lv_aload_n hx hb dX8_comes_40 rfl (lv_at hl 0 rfl) ?_
  refine r_get cx hw in_X8 0 (ci := 1) (T := TX8) (N := 13) rfl rfl 5 (by decide) q188 (fun _ h9 => h9) rfl dX8_comes_41 ?_
  refine lv_aload_n hx hb dX8_comes_44 rfl (lv_at hl 0 rfl) ?_
  refine r_get cx hw in_X8 0 (ci := 1) (T := TX8) (N := 13) rfl rfl 0 (by decide) q176 (fun _ h9 => h9) rfl dX8_comes_45 ?_
  refine r_topi (x' := nI (nN r)) (hI.1.2.1) ?_
  refine lv_aload_n hx hb dX8_comes_48 rfl (lv_at hl 0 rfl) ?_
  refine r_get cx hw in_X8 0 (ci := 1) (T := TX8) (N := 13) rfl rfl 0 (by decide) q176 (fun _ h9 => h9) rfl dX8_comes_49 ?_
  refine r_topi (x' := nI (nN r)) (hI.1.2.1) ?_
  refine r_iast cx hw 5 rfl (nN r) rfl (by omega) (Nat.le_of_ble_eq_true rfl) dX8_comes_52 (fun H locs hw => ?_)
  have hw : WS g A9 s9.heap (HG g b q (r 0) (flgF r 4) (flgF r 5) (r 2) (r 3) (r 1) (r 4) z (fun y => if y = nN r then some (q k) else (kdc q r) y) (upd (colv r 1) (nN r) n1) (upd (colv r 2) (nN r) n2) (upd (colv r 3) (nN r) 5) (upd (colv r 6) (nN r) (nI (nN r)))) H locs := hw
  refine lv_aload_n hx hb dX8_comes_53 rfl (lv_at hl 0 rfl) ?_
  refine lv_dup hx hb dX8_comes_54 rfl ?_
  refine r_get cx hw in_X8 0 (ci := 1) (T := TX8) (N := 13) rfl rfl 6 (by decide) q192 (fun _ h9 => h9) rfl dX8_comes_55 ?_
  refine lv_iconst (v := 1) hx hb dX8_comes_58 (by decide) ?_
  refine lv_aload_n hx hb dX8_comes_59 rfl (lv_at hl 0 rfl) ?_
  refine r_get cx hw in_X8 0 (ci := 1) (T := TX8) (N := 13) rfl rfl 0 (by decide) q176 (fun _ h9 => h9) rfl dX8_comes_60 ?_
  refine lv_ishl hx hb dX8_comes_63 ?_
  refine lv_iconst (v := (-1)) hx hb dX8_comes_64 (by decide) ?_
  refine lv_ixor hx hb dX8_comes_65 ?_
  refine lv_iand hx hb dX8_comes_66 ?_
  refine r_put cx hw in_X8 tyX8 tyX8_ok nmX8 0 (ci := 1) (T := TX8) (N := 13) rfl rfl 6 (by decide) q192 (fun _ h9 => h9) rfl (rfl) (rfl) (Nat.le_of_ble_eq_true rfl) dX8_comes_67 (fun H locs hw => ?_)
  have hw : WS g A9 s9.heap (HG g b q (r 0) ((flgF r 4) &&& (((1 : Int32) <<< ((r 0) &&& 31)) ^^^ (-1))) (flgF r 5) (r 2) (r 3) (r 1) (r 4) z (fun y => if y = nN r then some (q k) else (kdc q r) y) (upd (colv r 1) (nN r) n1) (upd (colv r 2) (nN r) n2) (upd (colv r 3) (nN r) 5) (upd (colv r 6) (nN r) (nI (nN r)))) H locs := hw
  refine lv_aload_n hx hb dX8_comes_70 rfl (lv_at hl 0 rfl) ?_
  refine lv_dup hx hb dX8_comes_71 rfl ?_
  refine r_get cx hw in_X8 0 (ci := 1) (T := TX8) (N := 13) rfl rfl 7 (by decide) q194 (fun _ h9 => h9) rfl dX8_comes_72 ?_
  refine lv_iconst (v := 1) hx hb dX8_comes_75 (by decide) ?_
  refine lv_aload_n hx hb dX8_comes_76 rfl (lv_at hl 0 rfl) ?_
  refine r_get cx hw in_X8 0 (ci := 1) (T := TX8) (N := 13) rfl rfl 0 (by decide) q176 (fun _ h9 => h9) rfl dX8_comes_77 ?_
  refine lv_ishl hx hb dX8_comes_80 ?_
  refine lv_iconst (v := (-1)) hx hb dX8_comes_81 (by decide) ?_
  refine lv_ixor hx hb dX8_comes_82 ?_
  refine lv_iand hx hb dX8_comes_83 ?_
  refine r_put cx hw in_X8 tyX8 tyX8_ok nmX8 0 (ci := 1) (T := TX8) (N := 13) rfl rfl 7 (by decide) q194 (fun _ h9 => h9) rfl (rfl) (rfl) (Nat.le_of_ble_eq_true rfl) dX8_comes_84 (fun H locs hw => ?_)
  have hw : WS g A9 s9.heap (HG g b q (r 0) ((flgF r 4) &&& (((1 : Int32) <<< ((r 0) &&& 31)) ^^^ (-1))) ((flgF r 5) &&& (((1 : Int32) <<< ((r 0) &&& 31)) ^^^ (-1))) (r 2) (r 3) (r 1) (r 4) z (fun y => if y = nN r then some (q k) else (kdc q r) y) (upd (colv r 1) (nN r) n1) (upd (colv r 2) (nN r) n2) (upd (colv r 3) (nN r) 5) (upd (colv r 6) (nN r) (nI (nN r)))) H locs := hw
  refine lv_aload_n hx hb dX8_comes_87 rfl (lv_at hl 0 rfl) ?_
  refine lv_dup hx hb dX8_comes_88 rfl ?_
  refine r_get cx hw in_X8 0 (ci := 1) (T := TX8) (N := 13) rfl rfl 0 (by decide) q176 (fun _ h9 => h9) rfl dX8_comes_89 ?_
  refine lv_iconst (v := 1) hx hb dX8_comes_92 (by decide) ?_
  refine lv_iadd hx hb dX8_comes_93 ?_
  refine r_put cx hw in_X8 tyX8 tyX8_ok nmX8 0 (ci := 1) (T := TX8) (N := 13) rfl rfl 0 (by decide) q176 (fun _ h9 => h9) rfl (rfl) (rfl) (Nat.le_of_ble_eq_true rfl) dX8_comes_94 (fun H locs hw => ?_)
  have hw : WS g A9 s9.heap (HG g b q ((r 0) + 1) ((flgF r 4) &&& (((1 : Int32) <<< ((r 0) &&& 31)) ^^^ (-1))) ((flgF r 5) &&& (((1 : Int32) <<< ((r 0) &&& 31)) ^^^ (-1))) (r 2) (r 3) (r 1) (r 4) z (fun y => if y = nN r then some (q k) else (kdc q r) y) (upd (colv r 1) (nN r) n1) (upd (colv r 2) (nN r) n2) (upd (colv r 3) (nN r) 5) (upd (colv r 6) (nN r) (nI (nN r)))) H locs := hw
  exact r_vret cx hw (⟨rfl, come_eq hI h6 hk h1 h2⟩) (Nat.le_of_ble_eq_true rfl) (Nat.le_of_ble_eq_true rfl) dX8_comes_97
