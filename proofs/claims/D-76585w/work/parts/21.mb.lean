/-! the reference: rows of a hill -/
set_option maxRecDepth 100000
theorem cpy_at (f t : Nat → Int32) : ∀ (n k : Nat), k < n → itr (fun k x => upd x k (f k)) n t k = f k
  | n + 1, k, h => by
    show upd (itr (fun k x => upd x k (f k)) n t) n (f n) k = f k
    by_cases e : k = n
    · subst e; exact upd_s _ _ _
    · rw [upd_n e]; exact cpy_at f t n k (by omega)
set_option maxHeartbeats 4000000 in
set_option maxRecDepth 100000 in
theorem kX9_copies (l : Launch) (hl9 : l.stackTraces = false) (g : GG) (h h2 : Nat) (f t : Nat → Int32) : MC l yX9_copies cX9_copies 3 none 0 0 0 0 g [.ref h, .ref h2] [(h, .inl (g.2 0, 47, .inl f)), (h2, .inl (g.2 0, 47, .inl t))] (rt none ([(h, .inl (g.2 0, 47, .inl f)), (h2, .inl (g.2 0, 47, .inl f))])) (noX) := by
  refine MC.of (by decide) (Nat.le_of_ble_eq_true rfl) ?_
  intro p9 e9 s9 m9 args9 below9 meth9 c9 A9 ls cx htab hw hl
  have hx := cx.1
  have hb := cx.2.1
  have hts := cx.2.2.2.2.1
  have hK := cx.2.2.2.2.2.2.2.1
  have hl : lv_has ls 3 [(0, .ref h), (1, .ref h2)] := hl
  have J2 : ∀ (n9 j : Nat) , j ≤ 47 → 47 < n9 + j → ∀ (H : Heap) (locs : List Loc) (ls : Array Slot), WS g A9 s9.heap ([(h, .inl (g.2 0, 47, .inl f)), (h2, .inl (g.2 0, 47, .inl (itr (fun k x => upd x k (f k)) j t)))]) H locs → lv_has ls 3 [(0, .ref h), (1, .ref h2), (2, .int (nI j))] → W p9 l e9 (rmC 0 0 0 0) s9 m9 args9 below9 meth9 c9 H locs 0 0 (vx_MQ below9 (PostA g A9 (rt none ([(h, .inl (g.2 0, 47, .inl f)), (h2, .inl (g.2 0, 47, .inl f))]))) (PxA g A9 (pxR (noX))) args9 s9 0 0 A9) (F0 m9 2 ls []) := by
    intro n9
    induction n9 with
    | zero => intro j  hj hk9; exact absurd hk9 (by omega)
    | succ n9 ih_J2 =>
      intro j  hj hk9  H locs ls hw hl
      refine lv_iload_n hx hb dX9_copies_2 rfl (lv_at hl 2 rfl) ?_
      refine lv_bipush (v := 47) hx hb dX9_copies_3 (by decide) ?_
      refine lv_icmp_ge (tgt := 20) hx hb dX9_copies_5 (by decide) (fun c_5 => ?_) (fun c_5 => ?_)
      · skip
        have c_5 : 47 ≤ j := (nI_leI (a := 47) (b := j) (by omega) (by omega)).mp c_5
        obtain e8 : j = 47 := by omega
        have hw : WS g A9 s9.heap ([(h, .inl (g.2 0, 47, .inl f)), (h2, .inl (g.2 0, 47, .inl f))]) H locs := WS.arr hw 1 rfl (fun k hk => cpy_at f t j k (by omega))
        exact r_vret cx hw (⟨rfl, rfl⟩) (Nat.le_of_ble_eq_true rfl) (Nat.le_of_ble_eq_true rfl) dX9_copies_20
      · skip
        have c_5 : j < 47 := Nat.not_le.mp (fun h9 => c_5 ((nI_leI (a := 47) (b := j) (by omega) (by omega)).mpr h9))
        refine lv_aload_n hx hb dX9_copies_8 rfl (lv_at hl 1 rfl) ?_
        refine lv_iload_n hx hb dX9_copies_9 rfl (lv_at hl 2 rfl) ?_
        refine lv_aload_n hx hb dX9_copies_10 rfl (lv_at hl 0 rfl) ?_
        refine lv_iload_n hx hb dX9_copies_11 rfl (lv_at hl 2 rfl) ?_
        refine r_iald cx hw 0 rfl j rfl (by omega) (Nat.le_of_ble_eq_true rfl) dX9_copies_12 ?_
        refine r_iast cx hw 1 rfl j rfl (by omega) (Nat.le_of_ble_eq_true rfl) dX9_copies_13 (fun H locs hw => ?_)
        have hw : WS g A9 s9.heap ([(h, .inl (g.2 0, 47, .inl f)), (h2, .inl (g.2 0, 47, .inl (upd (itr (fun k x => upd x k (f k)) j t) j (f j))))]) H locs := hw
        refine lv_iinc (v := nI (j + 1)) (lv' := [(2, .int (nI (j + 1))), (0, .ref h), (1, .ref h2)]) hx hb dX9_copies_14 hl (k := 2) rfl (nI_1 j) (by decide) rfl (fun ls hl => ?_)
        refine lv_goto (tgt := 2) hx hb dX9_copies_17 (by decide) ?_
        exact ih_J2 (j + 1)  (by omega) (by omega)  _ _ _ (hw) (lv_sub hl [1, 2, 0] rfl)
  refine lv_iconst (v := 0) hx hb dX9_copies_0 (by decide) ?_
  refine lv_istore_n (lv' := [(2, .int 0), (0, .ref h), (1, .ref h2)]) hx hb dX9_copies_1 rfl hl (by decide) rfl (fun ls hl => ?_)
  exact J2 (47 + 1) 0  (by omega) (by omega)  _ _ _ (hw) (lv_sub hl [1, 2, 0] rfl)

set_option maxHeartbeats 4000000 in
set_option maxRecDepth 100000 in
theorem kX9_hoursOn (l : Launch) (hl9 : l.stackTraces = false) (g : GG) (h : Nat) (r : Nat → Int32) (hI : InvM r) (n : Nat) (hn : n < 1000) : MC l yX9_hoursOn cX9_hoursOn 3 none 4 89 0 0 g [.ref h, .int (nI n)] [(h, .inl (g.2 0, 47, .inl r))] (rt none ([(h, .inl (g.2 0, 47, .inl (hoursF r n)))])) (noX) := by
  refine MC.of (by decide) (Nat.le_of_ble_eq_true rfl) ?_
  intro p9 e9 s9 m9 args9 below9 meth9 c9 A9 ls cx htab hw hl
  have hx := cx.1
  have hb := cx.2.1
  have hts := cx.2.2.2.2.1
  have hK := cx.2.2.2.2.2.2.2.1
  have hl : lv_has ls 3 [(0, .ref h), (1, .int (nI n))] := hl
  have J2 : ∀ (n9 j : Nat) , j ≤ n → n < n9 + j → ∀ (H : Heap) (locs : List Loc) (ls : Array Slot), WS g A9 s9.heap ([(h, .inl (g.2 0, 47, .inl (hoursF r j)))]) H locs → lv_has ls 3 [(0, .ref h), (1, .int (nI n)), (2, .int (nI j))] → W p9 l e9 (rmC 4 89 0 0) s9 m9 args9 below9 meth9 c9 H locs 0 0 (vx_MQ below9 (PostA g A9 (rt none ([(h, .inl (g.2 0, 47, .inl (hoursF r n)))]))) (PxA g A9 (pxR (noX))) args9 s9 0 0 A9) (F0 m9 2 ls []) := by
    intro n9
    induction n9 with
    | zero => intro j  hj hk9; exact absurd hk9 (by omega)
    | succ n9 ih_J2 =>
      intro j  hj hk9  H locs ls hw hl
      refine lv_iload_n hx hb dX9_hoursOn_2 rfl (lv_at hl 2 rfl) ?_
      refine lv_iload_n hx hb dX9_hoursOn_3 rfl (lv_at hl 1 rfl) ?_
      refine lv_icmp_ge (tgt := 18) hx hb dX9_hoursOn_4 (by decide) (fun c_4 => ?_) (fun c_4 => ?_)
      · skip
        have c_4 : n ≤ j := (nI_leI (a := n) (b := j) (by omega) (by omega)).mp c_4
        have e8 : j = n := by omega
        exact r_vret cx hw (⟨rfl, by rw [e8]⟩) (Nat.le_of_ble_eq_true rfl) (Nat.le_of_ble_eq_true rfl) dX9_hoursOn_18
      · skip
        have c_4 : j < n := Nat.not_le.mp (fun h9 => c_4 ((nI_leI (a := n) (b := j) (by omega) (by omega)).mpr h9))
        refine lv_aload_n hx hb dX9_hoursOn_7 rfl (lv_at hl 0 rfl) ?_
        refine lv_iconst (v := 0) hx hb dX9_hoursOn_8 (by decide) ?_
        refine r_det (r_S cx hw (kX9_hour l hl9 g h (hoursF r j) (hI.hours j) 0) (va_cwS 2 hts (lw_S q1264 q1265 q94 q1266) rfl rfl rfl (by decide +kernel) ⟨Nat.le_of_ble_eq_true rfl, Nat.le_of_ble_eq_true rfl⟩) [0] rfl rfl rfl hl.1 rfl (Nat.le_of_ble_eq_true rfl) dX9_hoursOn_9 ⟨Nat.le_of_ble_eq_true rfl, Nat.le_of_ble_eq_true rfl⟩) cx hw [0] rfl rfl rfl (ws' := [(h, .inl (g.2 0, 47, .inl (hourF (hoursF r j) 0)))]) (rfl) (fun H locs hw => ?_)
        refine W.eq (g2 := F0 m9 12 ls []) rfl ?_
        refine lv_iinc (v := nI (j + 1)) (lv' := [(2, .int (nI (j + 1))), (0, .ref h), (1, .int (nI n))]) hx hb dX9_hoursOn_12 hl (k := 2) rfl (nI_1 j) (by decide) rfl (fun ls hl => ?_)
        refine lv_goto (tgt := 2) hx hb dX9_hoursOn_15 (by decide) ?_
        exact ih_J2 (j + 1)  (by omega) (by omega)  _ _ _ (hw) (lv_sub hl [1, 2, 0] rfl)
  refine lv_iconst (v := 0) hx hb dX9_hoursOn_0 (by decide) ?_
  refine lv_istore_n (lv' := [(2, .int 0), (0, .ref h), (1, .int (nI n))]) hx hb dX9_hoursOn_1 rfl hl (by decide) rfl (fun ls hl => ?_)
  exact J2 (n + 1) 0  (by omega) (by omega)  _ _ _ (hw) (lv_sub hl [1, 2, 0] rfl)

set_option maxHeartbeats 4000000 in
set_option maxRecDepth 100000 in
theorem kX9_allHave (l : Launch) (hl9 : l.stackTraces = false) (g : GG) (h : Nat) (r : Nat → Int32) (hI : InvM r) : MC l yX9_allHave cX9_allHave 3 (some .int) 1 21 0 0 g [.ref h] [(h, .inl (g.2 0, 47, .inl r))] (rt (some (.int (allF r))) ([(h, .inl (g.2 0, 47, .inl r))])) (noX) := by
  refine MC.of (by decide) (Nat.le_of_ble_eq_true rfl) ?_
  intro p9 e9 s9 m9 args9 below9 meth9 c9 A9 ls cx htab hw hl
  have hx := cx.1
  have hb := cx.2.1
  have hts := cx.2.2.2.2.1
  have hK := cx.2.2.2.2.2.2.2.1
  have hl : lv_has ls 3 [(0, .ref h)] := hl
  have hN := hI.1
  have J : ∀ (n9 j : Nat) , j ≤ nN r → nN r < n9 + j → ∀ (H : Heap) (locs : List Loc) (ls : Array Slot), WS g A9 s9.heap ([(h, .inl (g.2 0, 47, .inl r))]) H locs → lv_has ls 3 [(0, .ref h), (1, .int (itr (fun p v => v + r (5 + 7 * p + 3)) j 0)), (2, .int (nI j))] → W p9 l e9 (rmC 1 21 0 0) s9 m9 args9 below9 meth9 c9 H locs 0 0 (vx_MQ below9 (PostA g A9 (rt (some (.int (allF r))) ([(h, .inl (g.2 0, 47, .inl r))]))) (PxA g A9 (pxR (noX))) args9 s9 0 0 A9) (F0 m9 4 ls []) := by
    intro n9
    induction n9 with
    | zero => intro j  hj hk9; exact absurd hk9 (by omega)
    | succ n9 ih_J =>
      intro j  hj hk9  H locs ls hw hl
      refine lv_iload_n hx hb dX9_allHave_4 rfl (lv_at hl 2 rfl) ?_
      refine lv_aload_n hx hb dX9_allHave_5 rfl (lv_at hl 0 rfl) ?_
      refine lv_iconst (v := 0) hx hb dX9_allHave_6 (by decide) ?_
      refine r_iald cx hw 0 rfl 0 rfl (by omega) (Nat.le_of_ble_eq_true rfl) dX9_allHave_7 ?_
      refine r_topi (x' := nI (nN r)) (hI.2.1) ?_
      refine lv_icmp_ge (tgt := 27) hx hb dX9_allHave_8 (by decide) (fun c_8 => ?_) (fun c_8 => ?_)
      · skip
        have c_8 : (nN r) ≤ j := (nI_leI (a := (nN r)) (b := j) (by omega) (by omega)).mp c_8
        have e8 : j = nN r := by omega
        refine lv_iload_n hx hb dX9_allHave_27 rfl (lv_at hl 1 rfl) ?_
        exact r_iret cx hw (⟨by rw [e8]; rfl, rfl⟩) (Nat.le_of_ble_eq_true rfl) (Nat.le_of_ble_eq_true rfl) dX9_allHave_28
      · skip
        have c_8 : j < (nN r) := Nat.not_le.mp (fun h9 => c_8 ((nI_leI (a := (nN r)) (b := j) (by omega) (by omega)).mpr h9))
        refine lv_iload_n hx hb dX9_allHave_11 rfl (lv_at hl 1 rfl) ?_
        refine lv_aload_n hx hb dX9_allHave_12 rfl (lv_at hl 0 rfl) ?_
        refine lv_iload_n hx hb dX9_allHave_13 rfl (lv_at hl 2 rfl) ?_
        refine lv_iconst (v := 3) hx hb dX9_allHave_14 (by decide) ?_
        refine r_det (r_S cx hw (kX9_of l hl9 g j 3) (va_cwS 2 hts (lw_S q1254 q1255 q94 q1256) rfl rfl rfl (by decide +kernel) ⟨Nat.le_of_ble_eq_true rfl, Nat.le_of_ble_eq_true rfl⟩) [] rfl rfl rfl hl.1 rfl (Nat.le_of_ble_eq_true rfl) dX9_allHave_15 ⟨Nat.le_of_ble_eq_true rfl, Nat.le_of_ble_eq_true rfl⟩) cx hw [] rfl rfl rfl (ws' := [(h, .inl (g.2 0, 47, .inl r))]) (rfl) (fun H locs hw => ?_)
        refine W.eq (g2 := F0 m9 18 ls [.int (nI (5 + 7 * j + 3)), .ref h, .int (itr (fun p v => v + r (5 + 7 * p + 3)) j 0)]) rfl ?_
        refine r_iald cx hw 0 rfl (5 + 7 * j + 3) rfl (by omega) (Nat.le_of_ble_eq_true rfl) dX9_allHave_18 ?_
        refine lv_iadd hx hb dX9_allHave_19 ?_
        refine lv_istore_n (lv' := [(1, .int ((itr (fun p v => v + r (5 + 7 * p + 3)) j 0) + (r (5 + 7 * j + 3)))), (0, .ref h), (2, .int (nI j))]) hx hb dX9_allHave_20 rfl hl (by decide) rfl (fun ls hl => ?_)
        refine lv_iinc (v := nI (j + 1)) (lv' := [(2, .int (nI (j + 1))), (1, .int ((itr (fun p v => v + r (5 + 7 * p + 3)) j 0) + (r (5 + 7 * j + 3)))), (0, .ref h)]) hx hb dX9_allHave_21 hl (k := 2) rfl (nI_1 j) (by decide) rfl (fun ls hl => ?_)
        refine lv_goto (tgt := 4) hx hb dX9_allHave_24 (by decide) ?_
        exact ih_J (j + 1)  (by omega) (by omega)  _ _ _ (hw) (lv_sub hl [2, 1, 0] rfl)
  refine lv_iconst (v := 0) hx hb dX9_allHave_0 (by decide) ?_
  refine lv_istore_n (lv' := [(1, .int 0), (0, .ref h)]) hx hb dX9_allHave_1 rfl hl (by decide) rfl (fun ls hl => ?_)
  refine lv_iconst (v := 0) hx hb dX9_allHave_2 (by decide) ?_
  refine lv_istore_n (lv' := [(2, .int 0), (1, .int 0), (0, .ref h)]) hx hb dX9_allHave_3 rfl hl (by decide) rfl (fun ls hl => ?_)
  exact J (nN r + 1) 0  (by omega) (by omega)  _ _ _ (hw) (lv_sub hl [2, 1, 0] rfl)

set_option maxHeartbeats 4000000 in
set_option maxRecDepth 100000 in
theorem kX9_flagged (l : Launch) (hl9 : l.stackTraces = false) (g : GG) (h : Nat) (r : Nat → Int32) (hI : InvM r) (w : Nat) (hw9 : w < 7) : MC l yX9_flagged cX9_flagged 4 (some .int) 1 21 0 0 g [.ref h, .int (nI w)] [(h, .inl (g.2 0, 47, .inl r))] (rt (some (.int (flgF r w))) ([(h, .inl (g.2 0, 47, .inl r))])) (noX) := by
  refine MC.of (by decide) (Nat.le_of_ble_eq_true rfl) ?_
  intro p9 e9 s9 m9 args9 below9 meth9 c9 A9 ls cx htab hw hl
  have hx := cx.1
  have hb := cx.2.1
  have hts := cx.2.2.2.2.1
  have hK := cx.2.2.2.2.2.2.2.1
  have hl : lv_has ls 4 [(0, .ref h), (1, .int (nI w))] := hl
  have hN := hI.1
  have J : ∀ (n9 j : Nat) , j ≤ nN r → nN r < n9 + j → ∀ (H : Heap) (locs : List Loc) (ls : Array Slot), WS g A9 s9.heap ([(h, .inl (g.2 0, 47, .inl r))]) H locs → lv_has ls 4 [(0, .ref h), (1, .int (nI w)), (2, .int (itr (fun p a => a ||| (r (5 + 7 * p + w) <<< (nI p &&& 31))) j 0)), (3, .int (nI j))] → W p9 l e9 (rmC 1 21 0 0) s9 m9 args9 below9 meth9 c9 H locs 0 0 (vx_MQ below9 (PostA g A9 (rt (some (.int (flgF r w))) ([(h, .inl (g.2 0, 47, .inl r))]))) (PxA g A9 (pxR (noX))) args9 s9 0 0 A9) (F0 m9 4 ls []) := by
    intro n9
    induction n9 with
    | zero => intro j  hj hk9; exact absurd hk9 (by omega)
    | succ n9 ih_J =>
      intro j  hj hk9  H locs ls hw hl
      refine lv_iload_n hx hb dX9_flagged_4 rfl (lv_at hl 3 rfl) ?_
      refine lv_aload_n hx hb dX9_flagged_5 rfl (lv_at hl 0 rfl) ?_
      refine lv_iconst (v := 0) hx hb dX9_flagged_6 (by decide) ?_
      refine r_iald cx hw 0 rfl 0 rfl (by omega) (Nat.le_of_ble_eq_true rfl) dX9_flagged_7 ?_
      refine r_topi (x' := nI (nN r)) (hI.2.1) ?_
      refine lv_icmp_ge (tgt := 29) hx hb dX9_flagged_8 (by decide) (fun c_8 => ?_) (fun c_8 => ?_)
      · skip
        have c_8 : (nN r) ≤ j := (nI_leI (a := (nN r)) (b := j) (by omega) (by omega)).mp c_8
        have e8 : j = nN r := by omega
        refine lv_iload_n hx hb dX9_flagged_29 rfl (lv_at hl 2 rfl) ?_
        exact r_iret cx hw (⟨by rw [e8]; rfl, rfl⟩) (Nat.le_of_ble_eq_true rfl) (Nat.le_of_ble_eq_true rfl) dX9_flagged_30
      · skip
        have c_8 : j < (nN r) := Nat.not_le.mp (fun h9 => c_8 ((nI_leI (a := (nN r)) (b := j) (by omega) (by omega)).mpr h9))
        refine lv_iload_n hx hb dX9_flagged_11 rfl (lv_at hl 2 rfl) ?_
        refine lv_aload_n hx hb dX9_flagged_12 rfl (lv_at hl 0 rfl) ?_
        refine lv_iload_n hx hb dX9_flagged_13 rfl (lv_at hl 3 rfl) ?_
        refine lv_iload_n hx hb dX9_flagged_14 rfl (lv_at hl 1 rfl) ?_
        refine r_det (r_S cx hw (kX9_of l hl9 g j w) (va_cwS 2 hts (lw_S q1254 q1255 q94 q1256) rfl rfl rfl (by decide +kernel) ⟨Nat.le_of_ble_eq_true rfl, Nat.le_of_ble_eq_true rfl⟩) [] rfl rfl rfl hl.1 rfl (Nat.le_of_ble_eq_true rfl) dX9_flagged_15 ⟨Nat.le_of_ble_eq_true rfl, Nat.le_of_ble_eq_true rfl⟩) cx hw [] rfl rfl rfl (ws' := [(h, .inl (g.2 0, 47, .inl r))]) (rfl) (fun H locs hw => ?_)
        refine W.eq (g2 := F0 m9 18 ls [.int (nI (5 + 7 * j + w)), .ref h, .int (itr (fun p a => a ||| (r (5 + 7 * p + w) <<< (nI p &&& 31))) j 0)]) rfl ?_
        refine r_iald cx hw 0 rfl (5 + 7 * j + w) rfl (by omega) (Nat.le_of_ble_eq_true rfl) dX9_flagged_18 ?_
        refine lv_iload_n hx hb dX9_flagged_19 rfl (lv_at hl 3 rfl) ?_
        refine lv_ishl hx hb dX9_flagged_20 ?_
        refine lv_ior hx hb dX9_flagged_21 ?_
        refine lv_istore_n (lv' := [(2, .int ((itr (fun p a => a ||| (r (5 + 7 * p + w) <<< (nI p &&& 31))) j 0) ||| ((r (5 + 7 * j + w)) <<< ((nI j) &&& 31)))), (0, .ref h), (1, .int (nI w)), (3, .int (nI j))]) hx hb dX9_flagged_22 rfl hl (by decide) rfl (fun ls hl => ?_)
        refine lv_iinc (v := nI (j + 1)) (lv' := [(3, .int (nI (j + 1))), (2, .int ((itr (fun p a => a ||| (r (5 + 7 * p + w) <<< (nI p &&& 31))) j 0) ||| ((r (5 + 7 * j + w)) <<< ((nI j) &&& 31)))), (0, .ref h), (1, .int (nI w))]) hx hb dX9_flagged_23 hl (k := 3) rfl (nI_1 j) (by decide) rfl (fun ls hl => ?_)
        refine lv_goto (tgt := 4) hx hb dX9_flagged_26 (by decide) ?_
        exact ih_J (j + 1)  (by omega) (by omega)  _ _ _ (hw) (lv_sub hl [2, 3, 1, 0] rfl)
  refine lv_iconst (v := 0) hx hb dX9_flagged_0 (by decide) ?_
  refine lv_istore_n (lv' := [(2, .int 0), (0, .ref h), (1, .int (nI w))]) hx hb dX9_flagged_1 rfl hl (by decide) rfl (fun ls hl => ?_)
  refine lv_iconst (v := 0) hx hb dX9_flagged_2 (by decide) ?_
  refine lv_istore_n (lv' := [(3, .int 0), (2, .int 0), (0, .ref h), (1, .int (nI w))]) hx hb dX9_flagged_3 rfl hl (by decide) rfl (fun ls hl => ?_)
  exact J (nN r + 1) 0  (by omega) (by omega)  _ _ _ (hw) (lv_sub hl [2, 3, 1, 0] rfl)

set_option maxHeartbeats 4000000 in
set_option maxRecDepth 100000 in
theorem kX9_leastHas (l : Launch) (hl9 : l.stackTraces = false) (g : GG) (h : Nat) (r : Nat → Int32) (hI : InvM r) : MC l yX9_leastHas cX9_leastHas 3 (some .int) 1 21 0 0 g [.ref h] [(h, .inl (g.2 0, 47, .inl r))] (rt (some (.int (lstF r))) ([(h, .inl (g.2 0, 47, .inl r))])) (noX) := by
  refine MC.of (by decide) (Nat.le_of_ble_eq_true rfl) ?_
  intro p9 e9 s9 m9 args9 below9 meth9 c9 A9 ls cx htab hw hl
  have hx := cx.1
  have hb := cx.2.1
  have hts := cx.2.2.2.2.1
  have hK := cx.2.2.2.2.2.2.2.1
  have hl : lv_has ls 3 [(0, .ref h)] := hl
  have hN := hI.1
  have J : ∀ (n9 j : Nat) , j ≤ nN r → nN r < n9 + j → ∀ (H : Heap) (locs : List Loc) (ls : Array Slot), WS g A9 s9.heap ([(h, .inl (g.2 0, 47, .inl r))]) H locs → lv_has ls 3 [(0, .ref h), (1, .int (itr (fun p v => leI v (r (5 + 7 * p + 3))) j 1000000000)), (2, .int (nI j))] → W p9 l e9 (rmC 1 21 0 0) s9 m9 args9 below9 meth9 c9 H locs 0 0 (vx_MQ below9 (PostA g A9 (rt (some (.int (lstF r))) ([(h, .inl (g.2 0, 47, .inl r))]))) (PxA g A9 (pxR (noX))) args9 s9 0 0 A9) (F0 m9 5 ls []) := by
    intro n9
    induction n9 with
    | zero => intro j  hj hk9; exact absurd hk9 (by omega)
    | succ n9 ih_J =>
      intro j  hj hk9  H locs ls hw hl
      refine lv_iload_n hx hb dX9_leastHas_5 rfl (lv_at hl 2 rfl) ?_
      refine lv_aload_n hx hb dX9_leastHas_6 rfl (lv_at hl 0 rfl) ?_
      refine lv_iconst (v := 0) hx hb dX9_leastHas_7 (by decide) ?_
      refine r_iald cx hw 0 rfl 0 rfl (by omega) (Nat.le_of_ble_eq_true rfl) dX9_leastHas_8 ?_
      refine r_topi (x' := nI (nN r)) (hI.2.1) ?_
      refine lv_icmp_ge (tgt := 30) hx hb dX9_leastHas_9 (by decide) (fun c_9 => ?_) (fun c_9 => ?_)
      · skip
        have c_9 : (nN r) ≤ j := (nI_leI (a := (nN r)) (b := j) (by omega) (by omega)).mp c_9
        have e8 : j = nN r := by omega
        refine lv_iload_n hx hb dX9_leastHas_30 rfl (lv_at hl 1 rfl) ?_
        exact r_iret cx hw (⟨by rw [e8]; rfl, rfl⟩) (Nat.le_of_ble_eq_true rfl) (Nat.le_of_ble_eq_true rfl) dX9_leastHas_31
      · skip
        have c_9 : j < (nN r) := Nat.not_le.mp (fun h9 => c_9 ((nI_leI (a := (nN r)) (b := j) (by omega) (by omega)).mpr h9))
        refine lv_iload_n hx hb dX9_leastHas_12 rfl (lv_at hl 1 rfl) ?_
        refine lv_aload_n hx hb dX9_leastHas_13 rfl (lv_at hl 0 rfl) ?_
        refine lv_iload_n hx hb dX9_leastHas_14 rfl (lv_at hl 2 rfl) ?_
        refine lv_iconst (v := 3) hx hb dX9_leastHas_15 (by decide) ?_
        refine r_det (r_S cx hw (kX9_of l hl9 g j 3) (va_cwS 2 hts (lw_S q1254 q1255 q94 q1256) rfl rfl rfl (by decide +kernel) ⟨Nat.le_of_ble_eq_true rfl, Nat.le_of_ble_eq_true rfl⟩) [] rfl rfl rfl hl.1 rfl (Nat.le_of_ble_eq_true rfl) dX9_leastHas_16 ⟨Nat.le_of_ble_eq_true rfl, Nat.le_of_ble_eq_true rfl⟩) cx hw [] rfl rfl rfl (ws' := [(h, .inl (g.2 0, 47, .inl r))]) (rfl) (fun H locs hw => ?_)
        refine W.eq (g2 := F0 m9 19 ls [.int (nI (5 + 7 * j + 3)), .ref h, .int (itr (fun p v => leI v (r (5 + 7 * p + 3))) j 1000000000)]) rfl ?_
        refine r_iald cx hw 0 rfl (5 + 7 * j + 3) rfl (by omega) (Nat.le_of_ble_eq_true rfl) dX9_leastHas_19 ?_
        refine r_det (r_S cx hw (kX9_least l hl9 g (itr (fun p v => leI v (r (5 + 7 * p + 3))) j 1000000000) (r (5 + 7 * j + 3))) (va_cwS 2 hts (lw_S q1267 q1268 q94 q1269) rfl rfl rfl (by decide +kernel) ⟨Nat.le_of_ble_eq_true rfl, Nat.le_of_ble_eq_true rfl⟩) [] rfl rfl rfl hl.1 rfl (Nat.le_of_ble_eq_true rfl) dX9_leastHas_20 ⟨Nat.le_of_ble_eq_true rfl, Nat.le_of_ble_eq_true rfl⟩) cx hw [] rfl rfl rfl (ws' := [(h, .inl (g.2 0, 47, .inl r))]) (rfl) (fun H locs hw => ?_)
        refine W.eq (g2 := F0 m9 23 ls [.int (leI (itr (fun p v => leI v (r (5 + 7 * p + 3))) j 1000000000) (r (5 + 7 * j + 3)))]) rfl ?_
        refine lv_istore_n (lv' := [(1, .int (leI (itr (fun p v => leI v (r (5 + 7 * p + 3))) j 1000000000) (r (5 + 7 * j + 3)))), (0, .ref h), (2, .int (nI j))]) hx hb dX9_leastHas_23 rfl hl (by decide) rfl (fun ls hl => ?_)
        refine lv_iinc (v := nI (j + 1)) (lv' := [(2, .int (nI (j + 1))), (1, .int (leI (itr (fun p v => leI v (r (5 + 7 * p + 3))) j 1000000000) (r (5 + 7 * j + 3)))), (0, .ref h)]) hx hb dX9_leastHas_24 hl (k := 2) rfl (nI_1 j) (by decide) rfl (fun ls hl => ?_)
        refine lv_goto (tgt := 5) hx hb dX9_leastHas_27 (by decide) ?_
        exact ih_J (j + 1)  (by omega) (by omega)  _ _ _ (hw) (lv_sub hl [2, 1, 0] rfl)
  refine lv_ldc hx hb cx.2.2.2.1 (hts _ q1368) dX9_leastHas_0 ?_
  refine lv_istore_n (lv' := [(1, .int 1000000000), (0, .ref h)]) hx hb dX9_leastHas_2 rfl hl (by decide) rfl (fun ls hl => ?_)
  refine lv_iconst (v := 0) hx hb dX9_leastHas_3 (by decide) ?_
  refine lv_istore_n (lv' := [(2, .int 0), (1, .int 1000000000), (0, .ref h)]) hx hb dX9_leastHas_4 rfl hl (by decide) rfl (fun ls hl => ?_)
  exact J (nN r + 1) 0  (by omega) (by omega)  _ _ _ (hw) (lv_sub hl [2, 1, 0] rfl)

set_option maxHeartbeats 4000000 in
set_option maxRecDepth 100000 in
theorem kX9_dryOnes (l : Launch) (hl9 : l.stackTraces = false) (g : GG) (h : Nat) (r : Nat → Int32) (hI : InvM r) : MC l yX9_dryOnes cX9_dryOnes 3 (some .int) 1 21 0 0 g [.ref h] [(h, .inl (g.2 0, 47, .inl r))] (rt (some (.int (dryF r))) ([(h, .inl (g.2 0, 47, .inl r))])) (noX) := by
  refine MC.of (by decide) (Nat.le_of_ble_eq_true rfl) ?_
  intro p9 e9 s9 m9 args9 below9 meth9 c9 A9 ls cx htab hw hl
  have hx := cx.1
  have hb := cx.2.1
  have hts := cx.2.2.2.2.1
  have hK := cx.2.2.2.2.2.2.2.1
  have hl : lv_has ls 3 [(0, .ref h)] := hl
  have hN := hI.1
  have J : ∀ (n9 j : Nat) , j ≤ nN r → nN r < n9 + j → ∀ (H : Heap) (locs : List Loc) (ls : Array Slot), WS g A9 s9.heap ([(h, .inl (g.2 0, 47, .inl r))]) H locs → lv_has ls 3 [(0, .ref h), (1, .int (itr (fun p a => a ||| dryB (r (5 + 7 * p + 3)) p) j 0)), (2, .int (nI j))] → W p9 l e9 (rmC 1 21 0 0) s9 m9 args9 below9 meth9 c9 H locs 0 0 (vx_MQ below9 (PostA g A9 (rt (some (.int (dryF r))) ([(h, .inl (g.2 0, 47, .inl r))]))) (PxA g A9 (pxR (noX))) args9 s9 0 0 A9) (F0 m9 4 ls []) := by
    intro n9
    induction n9 with
    | zero => intro j  hj hk9; exact absurd hk9 (by omega)
    | succ n9 ih_J =>
      intro j  hj hk9  H locs ls hw hl
      refine lv_iload_n hx hb dX9_dryOnes_4 rfl (lv_at hl 2 rfl) ?_
      refine lv_aload_n hx hb dX9_dryOnes_5 rfl (lv_at hl 0 rfl) ?_
      refine lv_iconst (v := 0) hx hb dX9_dryOnes_6 (by decide) ?_
      refine r_iald cx hw 0 rfl 0 rfl (by omega) (Nat.le_of_ble_eq_true rfl) dX9_dryOnes_7 ?_
      refine r_topi (x' := nI (nN r)) (hI.2.1) ?_
      refine lv_icmp_ge (tgt := 37) hx hb dX9_dryOnes_8 (by decide) (fun c_8 => ?_) (fun c_8 => ?_)
      · skip
        have c_8 : (nN r) ≤ j := (nI_leI (a := (nN r)) (b := j) (by omega) (by omega)).mp c_8
        have e8 : j = nN r := by omega
        refine lv_iload_n hx hb dX9_dryOnes_37 rfl (lv_at hl 1 rfl) ?_
        exact r_iret cx hw (⟨by rw [e8]; rfl, rfl⟩) (Nat.le_of_ble_eq_true rfl) (Nat.le_of_ble_eq_true rfl) dX9_dryOnes_38
      · skip
        have c_8 : j < (nN r) := Nat.not_le.mp (fun h9 => c_8 ((nI_leI (a := (nN r)) (b := j) (by omega) (by omega)).mpr h9))
        refine lv_iload_n hx hb dX9_dryOnes_11 rfl (lv_at hl 1 rfl) ?_
        refine lv_aload_n hx hb dX9_dryOnes_12 rfl (lv_at hl 0 rfl) ?_
        refine lv_iload_n hx hb dX9_dryOnes_13 rfl (lv_at hl 2 rfl) ?_
        refine lv_iconst (v := 3) hx hb dX9_dryOnes_14 (by decide) ?_
        refine r_det (r_S cx hw (kX9_of l hl9 g j 3) (va_cwS 2 hts (lw_S q1254 q1255 q94 q1256) rfl rfl rfl (by decide +kernel) ⟨Nat.le_of_ble_eq_true rfl, Nat.le_of_ble_eq_true rfl⟩) [] rfl rfl rfl hl.1 rfl (Nat.le_of_ble_eq_true rfl) dX9_dryOnes_15 ⟨Nat.le_of_ble_eq_true rfl, Nat.le_of_ble_eq_true rfl⟩) cx hw [] rfl rfl rfl (ws' := [(h, .inl (g.2 0, 47, .inl r))]) (rfl) (fun H locs hw => ?_)
        refine W.eq (g2 := F0 m9 18 ls [.int (nI (5 + 7 * j + 3)), .ref h, .int (itr (fun p a => a ||| dryB (r (5 + 7 * p + 3)) p) j 0)]) rfl ?_
        refine r_iald cx hw 0 rfl (5 + 7 * j + 3) rfl (by omega) (Nat.le_of_ble_eq_true rfl) dX9_dryOnes_18 ?_
        refine lv_if_ne (tgt := 28) hx hb dX9_dryOnes_19 (by decide) (fun c_19 => ?_) (fun c_19 => ?_)
        · skip
          refine lv_iconst (v := 0) hx hb dX9_dryOnes_28 (by decide) ?_
          refine r_topi (x' := dryB (r (5 + 7 * j + 3)) j) (by rw [dryB, if_neg c_19]) ?_
          refine lv_ior hx hb dX9_dryOnes_29 ?_
          refine lv_istore_n (lv' := [(1, .int ((itr (fun p a => a ||| dryB (r (5 + 7 * p + 3)) p) j 0) ||| (dryB (r (5 + 7 * j + 3)) j))), (0, .ref h), (2, .int (nI j))]) hx hb dX9_dryOnes_30 rfl hl (by decide) rfl (fun ls hl => ?_)
          refine lv_iinc (v := nI (j + 1)) (lv' := [(2, .int (nI (j + 1))), (1, .int ((itr (fun p a => a ||| dryB (r (5 + 7 * p + 3)) p) j 0) ||| (dryB (r (5 + 7 * j + 3)) j))), (0, .ref h)]) hx hb dX9_dryOnes_31 hl (k := 2) rfl (nI_1 j) (by decide) rfl (fun ls hl => ?_)
          refine lv_goto (tgt := 4) hx hb dX9_dryOnes_34 (by decide) ?_
          exact ih_J (j + 1)  (by omega) (by omega)  _ _ _ (hw) (lv_sub hl [2, 1, 0] rfl)
        · skip
          refine lv_iconst (v := 1) hx hb dX9_dryOnes_22 (by decide) ?_
          refine lv_iload_n hx hb dX9_dryOnes_23 rfl (lv_at hl 2 rfl) ?_
          refine lv_ishl hx hb dX9_dryOnes_24 ?_
          refine lv_goto (tgt := 29) hx hb dX9_dryOnes_25 (by decide) ?_
          refine r_topi (x' := dryB (r (5 + 7 * j + 3)) j) (by rw [dryB, if_pos c_19]) ?_
          refine lv_ior hx hb dX9_dryOnes_29 ?_
          refine lv_istore_n (lv' := [(1, .int ((itr (fun p a => a ||| dryB (r (5 + 7 * p + 3)) p) j 0) ||| (dryB (r (5 + 7 * j + 3)) j))), (0, .ref h), (2, .int (nI j))]) hx hb dX9_dryOnes_30 rfl hl (by decide) rfl (fun ls hl => ?_)
          refine lv_iinc (v := nI (j + 1)) (lv' := [(2, .int (nI (j + 1))), (1, .int ((itr (fun p a => a ||| dryB (r (5 + 7 * p + 3)) p) j 0) ||| (dryB (r (5 + 7 * j + 3)) j))), (0, .ref h)]) hx hb dX9_dryOnes_31 hl (k := 2) rfl (nI_1 j) (by decide) rfl (fun ls hl => ?_)
          refine lv_goto (tgt := 4) hx hb dX9_dryOnes_34 (by decide) ?_
          exact ih_J (j + 1)  (by omega) (by omega)  _ _ _ (hw) (lv_sub hl [2, 1, 0] rfl)
  refine lv_iconst (v := 0) hx hb dX9_dryOnes_0 (by decide) ?_
  refine lv_istore_n (lv' := [(1, .int 0), (0, .ref h)]) hx hb dX9_dryOnes_1 rfl hl (by decide) rfl (fun ls hl => ?_)
  refine lv_iconst (v := 0) hx hb dX9_dryOnes_2 (by decide) ?_
  refine lv_istore_n (lv' := [(2, .int 0), (1, .int 0), (0, .ref h)]) hx hb dX9_dryOnes_3 rfl hl (by decide) rfl (fun ls hl => ?_)
  exact J (nN r + 1) 0  (by omega) (by omega)  _ _ _ (hw) (lv_sub hl [2, 1, 0] rfl)

set_option maxHeartbeats 4000000 in
set_option maxRecDepth 100000 in
theorem kX9_wrongBy (l : Launch) (hl9 : l.stackTraces = false) (g : GG) (v lo hi : Int32) : MC l yX9_wrongBy cX9_wrongBy 3 (some .int) 0 0 0 0 g [.int v, .int lo, .int hi] [] (rt (some (.int (wrF v lo hi))) []) (noX) := by
  refine MC.of (by decide) (Nat.le_of_ble_eq_true rfl) ?_
  intro p9 e9 s9 m9 args9 below9 meth9 c9 A9 ls cx htab hw hl
  have hx := cx.1
  have hb := cx.2.1
  have hts := cx.2.2.2.2.1
  have hK := cx.2.2.2.2.2.2.2.1
  have hl : lv_has ls 3 [(0, .int v), (1, .int lo), (2, .int hi)] := hl
  refine lv_iload_n hx hb dX9_wrongBy_0 rfl (lv_at hl 0 rfl) ?_
  refine lv_iload_n hx hb dX9_wrongBy_1 rfl (lv_at hl 1 rfl) ?_
  refine lv_icmp_ge (tgt := 10) hx hb dX9_wrongBy_2 (by decide) (fun c_2 => ?_) (fun c_2 => ?_)
  · skip
    have c_2N := Int32.not_lt.mpr c_2
    refine lv_iload_n hx hb dX9_wrongBy_10 rfl (lv_at hl 0 rfl) ?_
    refine lv_iload_n hx hb dX9_wrongBy_11 rfl (lv_at hl 2 rfl) ?_
    refine lv_icmp_le (tgt := 20) hx hb dX9_wrongBy_12 (by decide) (fun c_12 => ?_) (fun c_12 => ?_)
    · skip
      have c_12N := Int32.not_lt.mpr c_12
      refine lv_iconst (v := 0) hx hb dX9_wrongBy_20 (by decide) ?_
      exact r_iret cx hw (⟨by simp [wrF, c_2, c_2N, c_12, c_12N], rfl⟩) (Nat.le_of_ble_eq_true rfl) (Nat.le_of_ble_eq_true rfl) dX9_wrongBy_21
    · skip
      have c_12N := Int32.not_le.mp c_12
      refine lv_bipush (v := (-6)) hx hb dX9_wrongBy_15 (by decide) ?_
      refine lv_goto (tgt := 21) hx hb dX9_wrongBy_17 (by decide) ?_
      exact r_iret cx hw (⟨by simp [wrF, c_2, c_2N, c_12, c_12N], rfl⟩) (Nat.le_of_ble_eq_true rfl) (Nat.le_of_ble_eq_true rfl) dX9_wrongBy_21
  · skip
    have c_2N := Int32.not_le.mp c_2
    refine lv_bipush (v := (-4)) hx hb dX9_wrongBy_5 (by decide) ?_
    refine lv_goto (tgt := 21) hx hb dX9_wrongBy_7 (by decide) ?_
    exact r_iret cx hw (⟨by simp [wrF, c_2, c_2N], rfl⟩) (Nat.le_of_ble_eq_true rfl) (Nat.le_of_ble_eq_true rfl) dX9_wrongBy_21
