/-! ROWS: System.arraycopy of six, storing a kind -/
set_option maxRecDepth 100000
/-- an array of references' contents count by its places alone -/
theorem WS.arrq {g : GG} {A : Nat → Prop} {H0 : Heap} {ws : va_W} {H : Heap} {locs : List Loc} (h : WS g A H0 ws H locs) (q0 : Nat) {a n : Nat} {cA : ClassId} {f f' : Nat → Option Nat} (ha : ws[q0]? = some (a, .inl (cA, n, .inr (.inr (.inr (.inr f)))))) (hf : ∀ k, k < n → f k = f' k) : WS g A H0 (ws.set q0 (a, .inl (cA, n, .inr (.inr (.inr (.inr f')))))) H locs := by
  refine ⟨h.1.set h.2.1 ha ?_ (fun _ _ => rfl), h.2.1.set ha, h.2.2⟩
  have h1 := h.1 q0 _ ha
  show H[a]? = some (vp_cell _ _)
  have h2 : H[a]? = some (vp_cell cA (n, .inr (.inr (.inr (.inr f))))) := h1
  rw [h2, vp_cell_q, vp_cell_q]
  congr 1
  unfold arrV
  congr 1
  exact congrArg Array.ofFn (funext fun j => congrArg va_rf (hf j.val j.isLt))
theorem cpy6 {α : Type} (f g : Nat → α) (k : Nat) (h : k < 6) : va_cpy f g 0 0 6 k = f k := by
  unfold va_cpy
  rw [if_pos ⟨Nat.zero_le _, by omega⟩]
  congr 1; omega
section ROWC
variable {p : Program} {l : Launch} {e : Env} {R : Room} {s : State} {m : MethodId} {args : Array Value} {below : List Frame} {meth : Method} {c : Code} {H : Heap} {locs : List Loc} {cells slots : Nat} {Q : State → Prop}
variable {cc : ByteArray} {pc nL index : Nat} {y0 : MethodName} {ret0 : Option FieldType} {g : GG} {A : Nat → Prop} {ls : Array Slot} {rest : List Value} {ws : va_W} {a a0 : Nat}
theorem r_cpi (cx : Cx p s m args meth c cc nL y0 ret0 g A) (hw : WS g A s.heap ws H locs) (hls : ls.size = nL) (hlink : Cond.methodLink y0.cls index arraycopyName ∈ lw_all) (q0 q1 : Nat) {f f1 : Nat → Int32} (ha0 : ws[q0]? = some (a0, .inl (g.2 0, 6, .inl f))) (ha1 : ws[q1]? = some (a, .inl (g.2 0, 6, .inl f1))) (hframes : 1 ≤ R.frames) (hlocals : (rest.map fun v => v.category).sum + (nativeFrameWords "java/lang/System" "arraycopy" 5 + 11) ≤ R.locals) (hdg : decode cc pc = .ok (.invokestatic index, 3))
    (kk : ∀ (H1 : Heap) (locs1 : List Loc), WS g A s.heap (ws.set q1 (a, .inl (g.2 0, 6, .inl f))) H1 locs1 → W p l e R s m args below meth c H1 locs1 cells slots Q (F0 m (pc + 3) ls rest)) : W p l e R s m args below meth c H locs cells slots Q (F0 m pc ls (.int 6 :: .int 0 :: .ref a :: .int 0 :: .ref a0 :: rest)) := by
  obtain ⟨hx, hb, hml, hown, hts, hr, hlocks, hK, -⟩ := cx
  refine va_copyi hx hb (hml.trans hls.symm) hown (hts _ hlink) (hts _ q566) (hts _ q565) (hts _ q111) hK.1 hw.1 hw.2.1 hw.2.2 q0 q1 0 0 ha0 ha1 rfl rfl rfl (by decide) (by decide) (by decide) (by decide) (by decide) (fun _ _ => rfl) hframes hlocals hdg (fun H1 locs1 h1 h2 h3 => ?_)
  have hs := WS.arr (g := g) (A := A) (H0 := s.heap) (locs := locs1) ⟨h1, h2, h3⟩ q1 (f' := f) (List.getElem?_set_self (List.getElem?_eq_some_iff.mp ha1).1) (fun k hk => cpy6 f f1 k hk)
  rw [List.set_set] at hs
  exact kk H1 locs1 hs
theorem kind_any {kb k : Nat} {q : Nat → Nat} (hk : k < 6) (hK : KG g s) (hw : WS g A s.heap ws H locs) (hkb : ∀ i, i < 6 → ws[kb + i]? = (KW q)[i]?) : va_Any RX1 s H (q k) := by
  match k, hk with
  | 0, _ => exact va_rAny hK.1 hw.1 (q0 := kb + 0) (ci := 2) (r := (RX2, TNo, 0)) (hkb 0 (by decide)) rfl (vb_asgC (hK.2.1 _ q1517 rfl))
  | 1, _ => exact va_rAny hK.1 hw.1 (q0 := kb + 1) (ci := 3) (r := (RX3, TNo, 0)) (hkb 1 (by decide)) rfl (vb_asgC (hK.2.1 _ q1518 rfl))
  | 2, _ => exact va_rAny hK.1 hw.1 (q0 := kb + 2) (ci := 4) (r := (RX4, TNo, 0)) (hkb 2 (by decide)) rfl (vb_asgC (hK.2.1 _ q1519 rfl))
  | 3, _ => exact va_rAny hK.1 hw.1 (q0 := kb + 3) (ci := 5) (r := (RX5, TNo, 0)) (hkb 3 (by decide)) rfl (vb_asgC (hK.2.1 _ q1520 rfl))
  | 4, _ => exact va_rAny hK.1 hw.1 (q0 := kb + 4) (ci := 6) (r := (RX6, TNo, 0)) (hkb 4 (by decide)) rfl (vb_asgC (hK.2.1 _ q1521 rfl))
  | 5, _ => exact va_rAny hK.1 hw.1 (q0 := kb + 5) (ci := 7) (r := (RX7, TNo, 0)) (hkb 5 (by decide)) rfl (vb_asgC (hK.2.1 _ q1522 rfl))
  | n + 6, h => exact absurd h (by omega)
theorem kdc_rng {q : Nat → Nat} {r : Nat → Int32} (hI : InvX r) {i y : Nat} (h : kdc q r i = some y) : ∃ k, k < 6 ∧ y = q k := by
  unfold kdc at h
  by_cases c : i < nN r
  · rw [if_pos c] at h
    exact ⟨kN r i, (hI.kind c).1, (Option.some.inj h).symm⟩
  · rw [if_neg c] at h; cases h
theorem r_cpk (cx : Cx p s m args meth c cc nL y0 ret0 g A) (hw : WS g A s.heap ws H locs) (hls : ls.size = nL) (hlink : Cond.methodLink y0.cls index arraycopyName ∈ lw_all) (q0 q1 : Nat) {q : Nat → Nat} {r : Nat → Int32} (hI : InvX r) {kb : Nat} (hkb : ∀ i, i < 6 → ws[kb + i]? = (KW q)[i]?) {f1 : Nat → Option Nat} (ha0 : ws[q0]? = some (a0, .inl (g.2 3, 6, .inr (.inr (.inr (.inr (kdc q r))))))) (ha1 : ws[q1]? = some (a, .inl (g.2 3, 6, .inr (.inr (.inr (.inr f1)))))) (hframes : 1 ≤ R.frames) (hlocals : (rest.map fun v => v.category).sum + (nativeFrameWords "java/lang/System" "arraycopy" 5 + 11) ≤ R.locals) (hdg : decode cc pc = .ok (.invokestatic index, 3))
    (kk : ∀ (H1 : Heap) (locs1 : List Loc), WS g A s.heap (ws.set q1 (a, .inl (g.2 3, 6, .inr (.inr (.inr (.inr (kdc q r))))))) H1 locs1 → W p l e R s m args below meth c H1 locs1 cells slots Q (F0 m (pc + 3) ls rest)) : W p l e R s m args below meth c H locs cells slots Q (F0 m pc ls (.int 6 :: .int 0 :: .ref a :: .int 0 :: .ref a0 :: rest)) := by
  obtain ⟨hx, hb, hml, hown, hts, hr, hlocks, hK, -⟩ := cx
  refine va_copyM hx hb (hml.trans hls.symm) hown (hts _ hlink) (hts _ q566) (hts _ q565) (hts _ q111) hK.1 hw.1 hw.2.1 hw.2.2 q0 q1 3 3 (E0 := RX1) (E1 := RX1) ha0 ha1 rfl rfl (by decide) (by decide) (by decide) (by decide) (by decide) (fun i _ y hy => ?_) hframes hlocals hdg (fun H1 locs1 h1 h2 h3 => ?_)
  · obtain ⟨k, hk, rfl⟩ := kdc_rng hI hy
    exact kind_any hk hK hw hkb
  · have hs := WS.arrq (g := g) (A := A) (H0 := s.heap) (locs := locs1) ⟨h1, h2, h3⟩ q1 (f' := kdc q r) (List.getElem?_set_self (List.getElem?_eq_some_iff.mp ha1).1) (fun k hk => cpy6 _ f1 k hk)
    rw [List.set_set] at hs
    exact kk H1 locs1 hs
/-- a kind is stored -/
theorem r_astK (cx : Cx p s m args meth c cc nL y0 ret0 g A) (hw : WS g A s.heap ws H locs) (q0 : Nat) {n v : Nat} {f : Nat → Option Nat} (ha : ws[q0]? = some (a, .inl (g.2 3, n, .inr (.inr (.inr (.inr f)))))) (i : Nat) {j : Int32} (hj : j = nI i) (hi : i < n) (hn : n < 2 ^ 31) (hany : va_Any RX1 s H v) (hdg : decode cc pc = .ok (.aastore, 1))
    (kk : ∀ (H1 : Heap) (locs1 : List Loc), WS g A s.heap (ws.set q0 (a, .inl (g.2 3, n, .inr (.inr (.inr (.inr (fun z => if z = i then some v else f z))))))) H1 locs1 → W p l e R s m args below meth c H1 locs1 cells slots Q (F0 m (pc + 1) ls rest)) : W p l e R s m args below meth c H locs cells slots Q (F0 m pc ls (.ref v :: .int j :: .ref a :: rest)) := by
  obtain ⟨hx, hb, hml, hown, hts, hr, hlocks, hK, -⟩ := cx
  subst hj
  refine va_astqM hx hb hK.1 hw.1 hw.2.1 hw.2.2 q0 3 ha rfl hany (vp_in_nI hi hn) hdg (fun H1 locs1 h1 h2 h3 => ?_)
  rw [nI_clamp (Nat.lt_trans hi hn)] at h1 h2
  exact kk H1 locs1 ⟨h1, h2, h3⟩
end ROWC
