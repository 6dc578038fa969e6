/-! ROWS over the layer -/
set_option maxRecDepth 100000
section ROW
variable {p : Program} {l : Launch} {e : Env} {R : Room} {s : State} {m : MethodId} {args : Array Value} {below : List Frame} {meth : Method} {c : Code} {H : Heap} {locs : List Loc} {cells slots : Nat} {Q : State → Prop}
variable {cc : ByteArray} {pc nL : Nat} {y0 : MethodName} {ret0 : Option FieldType} {g : GG} {A : Nat → Prop} {ls : Array Slot} {rest : List Value} {ws : va_W} {a : Nat}
theorem r_iret {post : Option Value → va_W → Prop} {P : Nat → Int32 → va_W → Prop} {mc ms : Nat} {v : Int32} (cx : Cx p s m args meth c cc nL y0 (some .int) g A) (hw : WS g A s.heap ws H locs) (hp : post (some (.int v)) ws) (h1 : cells ≤ mc) (h2 : slots ≤ ms) (hdg : decode cc pc = .ok (.ireturn, 1)) : W p l e R s m args below meth c H locs cells slots (vx_MQ below (PostA g A post) (PxA g A (pxR P)) args s mc ms A) (F0 m pc ls [.int v]) := by
  obtain ⟨hx, hb, -, -, -, hr, hlocks, -⟩ := cx
  exact W.widen h1 h2 (vx_ret (W.iret hx hb hr (fun t ht hW => ⟨⟨_, ws, rfl, hp, by rw [ht]; exact hw.1, hw.2.1⟩, hw.2.2.F ht⟩) hw.2.2.2.2 hdg))
theorem r_zret {post : Option Value → va_W → Prop} {P : Nat → Int32 → va_W → Prop} {mc ms : Nat} {v : Int32} (hn : narrow .boolean (.int v) = .int v) (cx : Cx p s m args meth c cc nL y0 (some .boolean) g A) (hw : WS g A s.heap ws H locs) (hp : post (some (.int v)) ws) (h1 : cells ≤ mc) (h2 : slots ≤ ms) (hdg : decode cc pc = .ok (.ireturn, 1)) : W p l e R s m args below meth c H locs cells slots (vx_MQ below (PostA g A post) (PxA g A (pxR P)) args s mc ms A) (F0 m pc ls [.int v]) := by
  obtain ⟨hx, hb, -, -, -, hr, hlocks, -⟩ := cx
  exact W.widen h1 h2 (vx_ret (W.zret hx hb hr hn (fun t ht hW => ⟨⟨_, ws, rfl, hp, by rw [ht]; exact hw.1, hw.2.1⟩, hw.2.2.F ht⟩) hw.2.2.2.2 hdg))
theorem r_lret {post : Option Value → va_W → Prop} {P : Nat → Int32 → va_W → Prop} {mc ms : Nat} {v : Int64} (cx : Cx p s m args meth c cc nL y0 (some .long) g A) (hw : WS g A s.heap ws H locs) (hp : post (some (.long v)) ws) (h1 : cells ≤ mc) (h2 : slots ≤ ms) (hdg : decode cc pc = .ok (.lreturn, 1)) : W p l e R s m args below meth c H locs cells slots (vx_MQ below (PostA g A post) (PxA g A (pxR P)) args s mc ms A) (F0 m pc ls [.long v]) := by
  obtain ⟨hx, hb, -, -, -, hr, hlocks, -⟩ := cx
  exact W.widen h1 h2 (vx_ret (W.lret hx hb hr (fun t ht hW => ⟨⟨_, ws, rfl, hp, by rw [ht]; exact hw.1, hw.2.1⟩, hw.2.2.F ht⟩) hw.2.2.2.2 hdg))
theorem r_vret {post : Option Value → va_W → Prop} {P : Nat → Int32 → va_W → Prop} {mc ms : Nat} (cx : Cx p s m args meth c cc nL y0 none g A) (hw : WS g A s.heap ws H locs) (hp : post none ws) (h1 : cells ≤ mc) (h2 : slots ≤ ms) (hdg : decode cc pc = .ok (.return_, 1)) : W p l e R s m args below meth c H locs cells slots (vx_MQ below (PostA g A post) (PxA g A (pxR P)) args s mc ms A) (F0 m pc ls []) := by
  obtain ⟨hx, hb, -, -, -, hr, hlocks, -⟩ := cx
  exact W.widen h1 h2 (vx_ret (W.vret hx hb hr (fun t ht hW => ⟨⟨_, ws, rfl, hp, by rw [ht]; exact hw.1, hw.2.1⟩, hw.2.2.F ht⟩) hw.2.2.2.2 hdg))
theorem r_aret {post : Option Value → va_W → Prop} {P : Nat → Int32 → va_W → Prop} {mc ms : Nat} {v : Nat} {C : String} (cx : Cx p s m args meth c cc nL y0 (some (.object C)) g A) (hw : WS g A s.heap ws H locs) (hp : post (some (.ref v)) ws) (h1 : cells ≤ mc) (h2 : slots ≤ ms) (hdg : decode cc pc = .ok (.areturn, 1)) : W p l e R s m args below meth c H locs cells slots (vx_MQ below (PostA g A post) (PxA g A (pxR P)) args s mc ms A) (F0 m pc ls [.ref v]) := by
  obtain ⟨hx, hb, -, -, -, hr, hlocks, -⟩ := cx
  exact W.widen h1 h2 (vx_ret (W.aret hx hb hr (Or.inl ⟨_, rfl⟩) (Or.inr ⟨_, rfl⟩) (fun t ht hW => ⟨⟨_, ws, rfl, hp, by rw [ht]; exact hw.1, hw.2.1⟩, hw.2.2.F ht⟩) hw.2.2.2.2 hdg))
/-- a cell of a known class -/
theorem r_cell {k ci : Nat} {fs : List Value} {q : Nat} {r : vw_C} (hK : KG g s) (hw : WS g A s.heap ws H locs) (hq : ws[k]? = some (q, .inr (ci, fs))) (hc : vwCl[ci]? = some r) : ∃ cell : Cell, H[q]? = some cell ∧ cell.vm = .none ∧ s.vm.findClass r.1 = some cell.cls := by
  obtain ⟨q', h1, cell, g1, g2, g3, -⟩ := hw.1 k _ hq
  exact ⟨cell, g1, g3, by rw [g2]; exact (hK.1.1 ci r hc).2.1⟩
theorem r_recv {k ci : Nat} {fs : List Value} {q : Nat} {r : vw_C} (hK : KG g s) (hw : WS g A s.heap ws H locs) (hq : ws[k]? = some (q, .inr (ci, fs))) (hc : vwCl[ci]? = some r) : ∃ cell : Cell, H[q]? = some cell ∧ cell.vm.isStatics = false ∧ s.vm.findClass r.1 = some cell.cls := by
  obtain ⟨cell, h1, h2, h3⟩ := r_cell hK hw hq hc
  exact ⟨cell, h1, by rw [h2]; rfl, h3⟩
/-- a throw that goes on to the caller -/
theorem r_out {post : Option Value → va_W → Prop} {P : Nat → Int32 → va_W → Prop} {mc ms ci : Nat} {num : Int32} {w0 : va_W} {q : Nat} {vs : List Value} (cx : Cx p s m args meth c cc nL y0 ret0 g A) (htab : ∀ x ∈ c.exceptionTable.toList, False) (hci : ci = 10 ∨ ci = 11) (hv : vs.length = 6) (hw : WS g A s.heap (w0 ++ [(q, .inr (ci, vs ++ [.int num]))]) H locs) (hp : P ci num w0) (h1 : cells ≤ mc) (h2 : slots ≤ ms) : vx_W p l e R s m args below meth c H locs cells slots (vx_MQ below (PostA g A post) (PxA g A (pxR P)) args s mc ms A) (F0 m pc ls rest) q := by
  obtain ⟨hx, hb, -, -, -, hr, hlocks, hK, -⟩ := cx
  obtain ⟨r, hcr⟩ : ∃ r, vwCl[ci]? = some r := by rcases hci with h | h <;> subst h <;> exact ⟨_, rfl⟩
  obtain ⟨cell, g1, g2, g3⟩ := r_cell (k := w0.length) (q := q) (fs := vs ++ [.int num]) hK hw (by simp) hcr
  exact vx_out (E := r.1) (ce := cell) (fun x hx => (htab x hx).elim) hlocks g1 g2 g3 (fun t ht hvm => ⟨_, ⟨ci, num, w0, vs, hci, hp, hv, rfl⟩, by rw [ht]; exact hw.1, hw.2.1, hw.2.2.F ht⟩) hw.2.2.2.2 h1 h2
/-- what a callee asks of the heap -/
theorem r_pre {wc : va_W} {av : List Value} (hK : KG g s) (hZ : ZG A s s.heap) (hA : ∀ q, s.heap.size ≤ q → A q) (hw : WS g A s.heap ws H locs) (isC : List Nat) (hC : isC.map (fun i => ws[i]?) = wc.map some) (hn : va_nd isC = true) : ∀ U : State, U.heap = H → s.WarmedH U.vm → PreC g av wc H.size av.toArray U := by
  intro U hU hW
  have hFc := va_free hw.2.1 hw.2.2 hA isC hC
  refine ⟨rfl, by rw [hU], by rw [hU]; exact hw.1.sub isC (wpick _ _ _ hC), hK.moved hW, (hw.2.1.sub isC hn hC).weaken (fun _ _ _ _ => trivial), ?_⟩
  rw [hU]
  exact ((hZ.kept hw.2.2.2.1).narrow hFc).moved hW.alike
/-- behind a call -/
theorem r_run {mc ms : Nat} {wc : va_W} {st0 : List Value} {av : Array Value} {post : Option Value → va_W → Prop} {P : Nat → Int32 → va_W → Prop} (hr : vx_Run p l e R s m args below meth c H locs cells slots mc ms (F0 m pc ls st0) rest (PostA g (va_A wc H.size) post av) (PxA g (va_A wc H.size) (pxR P)) (va_A wc H.size)) (hA : ∀ q, s.heap.size ≤ q → A q) (hw : WS g A s.heap ws H locs) (isC : List Nat) (hC : isC.map (fun i => ws[i]?) = wc.map some) (hn : va_nd isC = true)
    (ha : ∀ v w1, post v w1 → (w1.take wc.length).map Prod.fst = wc.map Prod.fst) (hx : ∀ ci num w0, P ci num w0 → w0.map Prod.fst = wc.map Prod.fst)
    (kx : ∀ (ci : Nat) (num : Int32) (w0 : va_W) (q : Nat) (vs : List Value) (H1 : Heap) (locs1 : List Loc), (ci = 10 ∨ ci = 11) → P ci num w0 → vs.length = 6 → WS g A s.heap (wput ws isC w0 ++ [(q, .inr (ci, vs ++ [.int num]))]) H1 locs1 → vx_W p l e R s m args below meth c H1 locs1 (cells + mc) (slots + ms) Q (F0 m pc ls rest) q)
    (kk : ∀ (v : Option Value) (w1 : va_W) (H1 : Heap) (locs1 : List Loc), post v w1 → WS g A s.heap (wput ws isC (w1.take wc.length) ++ w1.drop wc.length) H1 locs1 → W p l e R s m args below meth c H1 locs1 (cells + mc) (slots + ms) Q (F0 m (pc + 3) ls (v.toList ++ rest))) : W p l e R s m args below meth c H locs cells slots Q (F0 m pc ls st0) := by
  have hFc := va_free hw.2.1 hw.2.2 hA isC hC
  intro T hT X
  rcases hr T hT X with ⟨v, st₀, t, T', L, h0, X', hL, e1, e2, ⟨⟨v', w1, hv, hp, hP1, hD1⟩, hF⟩, st⟩ | ⟨q, st₀, t, T', L, E, ce, h0, X', hL, e1, e2, ⟨w1, ⟨ci, num, w0, vs, hci, hp, hvs, rfl⟩, hP1, hD1, hF⟩, hce, hcv, hcl, st⟩
  · cases hv
    obtain ⟨k1, k2, k3⟩ := vx_keep h0 e1 hw.2.2 (fun q _ h => hFc q h) hFc hL hF
    have hj := wjoin hw.1 hw.2.1 isC hC hn k2 hFc (by rw [e1]; exact hP1) hD1 (ha _ _ hp)
    obtain ⟨t2, a1, b1⟩ := kk v w1 T'.heap (locs ++ L) hp ⟨hj.1, hj.2, k3⟩ T' rfl X'
    exact ⟨t2, st t2 a1, b1⟩
  · obtain ⟨k1, k2, k3⟩ := vx_keep h0 e1 hw.2.2 (fun q _ h => hFc q h) hFc hL hF
    have hw0 := hx _ _ _ hp
    have hl0 : w0.length = wc.length := by simpa using congrArg List.length hw0
    have ht : (w0 ++ [(q, .inr (ci, vs ++ [.int num]))] : va_W).take wc.length = w0 := by rw [← hl0]; simp
    have hd : (w0 ++ [(q, .inr (ci, vs ++ [.int num]))] : va_W).drop wc.length = [(q, .inr (ci, vs ++ [.int num]))] := by rw [← hl0]; simp
    have hj := wjoin hw.1 hw.2.1 isC hC hn k2 hFc (by rw [e1]; exact hP1) hD1 (by rw [ht]; exact hw0)
    rw [ht, hd] at hj
    obtain ⟨t2, a1, b1⟩ := kx ci num w0 q vs T'.heap (locs ++ L) hci hp hvs ⟨hj.1, hj.2, k3⟩ T' rfl X'
    exact ⟨t2, st.trans a1, b1⟩
variable {y : MethodName} {bytes : ByteArray} {maxL f lo mc ms n index : Nat} {ret : Option FieldType} {wc : va_W} {As st0 : List Value} {b : Nat} {C : String}
section
variable {post : Option Value → va_W → Prop} {P : Nat → Int32 → va_W → Prop}
/-- a virtual call -/
theorem r_V (cx : Cx p s m args meth c cc nL y0 ret0 g A) (hw : WS g A s.heap ws H locs) (hM : MC l y bytes maxL ret f lo mc ms g (.ref b :: As) wc post P) (cw : CallW R s args y0.cls C index y bytes maxL ret (ws_ y bytes maxL ret) (rmC f lo mc ms) mc ms n) (hrec : ∃ cell : Cell, H[b]? = some cell ∧ cell.vm.isStatics = false ∧ s.vm.findClass C = some cell.cls) (isC : List Nat) (hC : isC.map (fun i => ws[i]?) = wc.map some) (hn : va_nd isC = true) (hAs : As.length = n) (hls : ls.size = nL) (hst : st0 = As.reverse ++ .ref b :: rest) (hcat : (rest.map fun v => v.category).sum ≤ 8) (hdg : decode cc pc = .ok (.invokevirtual index, 3)) (hf : cells + mc ≤ R.cells ∧ slots + ms ≤ R.slots) :
    vx_Run p l e R s m args below meth c H locs cells slots mc ms (F0 m pc ls st0) rest (PostA g (va_A wc H.size) post (Value.ref b :: As).toArray) (PxA g (va_A wc H.size) (pxR P)) (va_A wc H.size) := by
  obtain ⟨hx, hb, hml, hown, hts, hr, hlocks, hK, hZ, hA, -⟩ := cx
  exact vx_runV ⟨hx, hb, hml, hown, hts⟩ (hM H.size) cw ⟨PreC.blind, hrec, r_pre hK hZ hA hw isC hC hn⟩ rfl hAs hls hst (lv_room hcat) hdg hf
/-- a static call -/
theorem r_S (cx : Cx p s m args meth c cc nL y0 ret0 g A) (hw : WS g A s.heap ws H locs) (hM : MC l y bytes maxL ret f lo mc ms g As wc post P) (cw : CallB R s args y0.cls index y bytes maxL ret (ws_ y bytes maxL ret) (rmC f lo mc ms) mc ms n ∧ (Cond.static y).before args s = true) (isC : List Nat) (hC : isC.map (fun i => ws[i]?) = wc.map some) (hn : va_nd isC = true) (hAs : As.length = n) (hls : ls.size = nL) (hst : st0 = As.reverse ++ rest) (hcat : (rest.map fun v => v.category).sum ≤ 8) (hdg : decode cc pc = .ok (.invokestatic index, 3)) (hf : cells + mc ≤ R.cells ∧ slots + ms ≤ R.slots) :
    vx_Run p l e R s m args below meth c H locs cells slots mc ms (F0 m pc ls st0) rest (PostA g (va_A wc H.size) post As.toArray) (PxA g (va_A wc H.size) (pxR P)) (va_A wc H.size) := by
  obtain ⟨hx, hb, hml, hown, hts, hr, hlocks, hK, hZ, hA, -⟩ := cx
  exact vx_runS ⟨hx, hb, hml, hown, hts⟩ (hM H.size) cw ⟨PreC.blind, r_pre hK hZ hA hw isC hC hn⟩ rfl hAs hls hst (lv_room hcat) hdg hf
/-- a constructor's call -/
theorem r_I (cx : Cx p s m args meth c cc nL y0 ret0 g A) (hw : WS g A s.heap ws H locs) (hM : MC l y bytes maxL none f lo mc ms g (.ref b :: As) wc post P) (cw : CallB R s args y0.cls index y bytes maxL none (ws_ y bytes maxL none) (rmC f lo mc ms) mc ms n ∧ y.name = "<init>" ∧ (Cond.instanceMethod y).before args s = true) (isC : List Nat) (hC : isC.map (fun i => ws[i]?) = wc.map some) (hn : va_nd isC = true) (hAs : As.length = n) (hls : ls.size = nL) (hst : st0 = As.reverse ++ .ref b :: rest) (hcat : (rest.map fun v => v.category).sum ≤ 8) (hdg : decode cc pc = .ok (.invokespecial index, 3)) (hf : cells + mc ≤ R.cells ∧ slots + ms ≤ R.slots) :
    vx_Run p l e R s m args below meth c H locs cells slots mc ms (F0 m pc ls st0) rest (PostA g (va_A wc H.size) post (Value.ref b :: As).toArray) (PxA g (va_A wc H.size) (pxR P)) (va_A wc H.size) := by
  obtain ⟨hx, hb, hml, hown, hts, hr, hlocks, hK, hZ, hA, -⟩ := cx
  exact vx_runI ⟨hx, hb, hml, hown, hts⟩ (hM H.size) cw ⟨PreC.blind, r_pre hK hZ hA hw isC hC hn⟩ rfl hAs hls hst (lv_room hcat) hdg hf
end
/-- a call whose answer is known, of a callee that throws nothing and makes nothing that is kept -/
theorem r_det {v0 : Option Value} {w0 ws' : va_W} {av : Array Value} (hr : vx_Run p l e R s m args below meth c H locs cells slots mc ms (F0 m pc ls st0) rest (PostA g (va_A wc H.size) (rt v0 w0) av) (PxA g (va_A wc H.size) (pxR noX)) (va_A wc H.size)) (cx : Cx p s m args meth c cc nL y0 ret0 g A) (hw : WS g A s.heap ws H locs) (isC : List Nat) (hC : isC.map (fun i => ws[i]?) = wc.map some) (hn : va_nd isC = true) (ha : (w0.take wc.length).map Prod.fst = wc.map Prod.fst) (hws : wput ws isC (w0.take wc.length) ++ w0.drop wc.length = ws')
    (kk : ∀ (H1 : Heap) (locs1 : List Loc), WS g A s.heap ws' H1 locs1 → W p l e R s m args below meth c H1 locs1 (cells + mc) (slots + ms) Q (F0 m (pc + 3) ls (v0.toList ++ rest))) : W p l e R s m args below meth c H locs cells slots Q (F0 m pc ls st0) := by
  refine r_run hr cx.2.2.2.2.2.2.2.2.2.1 hw isC hC hn ?_ (fun _ _ _ h => h.elim) (fun _ _ _ _ _ _ _ _ h => h.elim) ?_
  · rintro v w1 ⟨rfl, rfl⟩
    exact ha
  · rintro v w1 H1 locs1 ⟨rfl, rfl⟩ hw1
    exact kk H1 locs1 (hws ▸ hw1)
/-! fields -/
theorem r_get (cx : Cx p s m args meth c cc nL y0 ret0 g A) (hw : WS g A s.heap ws H locs) {ref C : String} {T : u_T} {N ci index : Nat} (hin : ∀ w ∈ u_ws C T N, w ∈ lw_all) (q0 : Nat) {fs : List Value} (he : ws[q0]? = some (a, .inr (ci, fs))) (hc : vwCl[ci]? = some (C, T, N)) (k : Nat) (hk : k < N) (hlink : Cond.fieldLink y0.cls index ref (T k).2.1 (T k).2.2.1 ∈ lw_all) (hsame : ∀ x, s.fieldFound? (T k).1 (T k).2.1 (T k).2.2.1 = some x → s.fieldFound? ref (T k).2.1 (T k).2.2.1 = some x) {v : Value} (hv : fs[k]? = some v) (hdg : decode cc pc = .ok (.getfield index, 3))
    (kk : W p l e R s m args below meth c H locs cells slots Q (F0 m (pc + 3) ls (v :: rest))) : W p l e R s m args below meth c H locs cells slots Q (F0 m pc ls (.ref a :: rest)) := by
  obtain ⟨hx, hb, hml, hown, hts, hr, hlocks, hK, -⟩ := cx
  exact va_get (D := g.1) hx hb hts hin hown hK.1 hw.1 q0 he hc k hk (hts _ hlink) hsame hv hdg kk
theorem r_getN (cx : Cx p s m args meth c cc nL y0 ret0 g A) (hw : WS g A s.heap ws H locs) {ref C host : String} {T : u_T} {N ci index : Nat} (hin : ∀ w ∈ u_ws C T N, w ∈ lw_all) (q0 : Nat) {fs : List Value} (he : ws[q0]? = some (a, .inr (ci, fs))) (hc : vwCl[ci]? = some (C, T, N)) (k : Nat) (hk : k < N) (hlink : Cond.fieldLinkNest y0.cls index ref (T k).2.1 (T k).2.2.1 host ∈ lw_tbl) (hsame : ∀ x, s.fieldFound? (T k).1 (T k).2.1 (T k).2.2.1 = some x → s.fieldFound? ref (T k).2.1 (T k).2.2.1 = some x) {v : Value} (hv : fs[k]? = some v) (hdg : decode cc pc = .ok (.getfield index, 3))
    (kk : W p l e R s m args below meth c H locs cells slots Q (F0 m (pc + 3) ls (v :: rest))) : W p l e R s m args below meth c H locs cells slots Q (F0 m pc ls (.ref a :: rest)) := by
  obtain ⟨hx, hb, hml, hown, hts, hr, hlocks, hK, -⟩ := cx
  exact va_getN (D := g.1) hx hb hts hin hown hK.1 hw.1 q0 he hc k hk (va_Nw.use rfl (hK.2.1 _ hlink rfl)) hsame hv hdg kk
theorem r_put (cx : Cx p s m args meth c cc nL y0 ret0 g A) (hw : WS g A s.heap ws H locs) {ref C : String} {T : u_T} {N ci index : Nat} (hin : ∀ w ∈ u_ws C T N, w ∈ lw_all) (ty0 : Nat → FieldType) (hty : ∀ k, k < N → parseFieldDescriptor (T k).2.2.1 = some (ty0 k)) (hnm : ∀ a, a < N → ∀ b, b < N → a ≠ b → (T a).2.1 ≠ (T b).2.1) (q0 : Nat) {fs : List Value} (he : ws[q0]? = some (a, .inr (ci, fs))) (hc : vwCl[ci]? = some (C, T, N)) (k : Nat) (hk : k < N) (hlink : Cond.fieldLink y0.cls index ref (T k).2.1 (T k).2.2.1 ∈ lw_all) (hsame : ∀ x, s.fieldFound? (T k).1 (T k).2.1 (T k).2.2.1 = some x → s.fieldFound? ref (T k).2.1 (T k).2.2.1 = some x) (hfin : (T k).2.2.2 = false) {v : Value} (hn : narrow (ty0 k) v = v) (hfit : fits (ty0 k) v = true) (hl : k < fs.length)
    (hdg : decode cc pc = .ok (.putfield index, 3)) (kk : ∀ (H1 : Heap) (locs1 : List Loc), WS g A s.heap (ws.set q0 (a, .inr (ci, fs.set k v))) H1 locs1 → W p l e R s m args below meth c H1 locs1 cells slots Q (F0 m (pc + 3) ls rest)) : W p l e R s m args below meth c H locs cells slots Q (F0 m pc ls (v :: .ref a :: rest)) := by
  obtain ⟨hx, hb, hml, hown, hts, hr, hlocks, hK, -⟩ := cx
  exact va_put (D := g.1) hx hb hts hin ty0 hty hnm hown hK.1 hw.1 hw.2.1 hw.2.2 q0 he hc k hk (hts _ hlink) hsame hfin (hty k hk) hn hfit hl hdg (fun H1 locs1 h1 h2 h3 => kk H1 locs1 ⟨h1, h2, h3⟩)
theorem r_putN (cx : Cx p s m args meth c cc nL y0 ret0 g A) (hw : WS g A s.heap ws H locs) {ref C host : String} {T : u_T} {N ci index : Nat} (hin : ∀ w ∈ u_ws C T N, w ∈ lw_all) (ty0 : Nat → FieldType) (hty : ∀ k, k < N → parseFieldDescriptor (T k).2.2.1 = some (ty0 k)) (hnm : ∀ a, a < N → ∀ b, b < N → a ≠ b → (T a).2.1 ≠ (T b).2.1) (q0 : Nat) {fs : List Value} (he : ws[q0]? = some (a, .inr (ci, fs))) (hc : vwCl[ci]? = some (C, T, N)) (k : Nat) (hk : k < N) (hlink : Cond.fieldLinkNest y0.cls index ref (T k).2.1 (T k).2.2.1 host ∈ lw_tbl) (hsame : ∀ x, s.fieldFound? (T k).1 (T k).2.1 (T k).2.2.1 = some x → s.fieldFound? ref (T k).2.1 (T k).2.2.1 = some x) (hfin : (T k).2.2.2 = false) {v : Value} (hn : narrow (ty0 k) v = v) (hfit : fits (ty0 k) v = true) (hl : k < fs.length)
    (hdg : decode cc pc = .ok (.putfield index, 3)) (kk : ∀ (H1 : Heap) (locs1 : List Loc), WS g A s.heap (ws.set q0 (a, .inr (ci, fs.set k v))) H1 locs1 → W p l e R s m args below meth c H1 locs1 cells slots Q (F0 m (pc + 3) ls rest)) : W p l e R s m args below meth c H locs cells slots Q (F0 m pc ls (v :: .ref a :: rest)) := by
  obtain ⟨hx, hb, hml, hown, hts, hr, hlocks, hK, -⟩ := cx
  exact va_putN (D := g.1) hx hb hts hin ty0 hty hnm hown hK.1 hw.1 hw.2.1 hw.2.2 q0 he hc k hk (va_Nw.use rfl (hK.2.1 _ hlink rfl)) hsame hfin (hty k hk) hn hfit hl hdg (fun H1 locs1 h1 h2 h3 => kk H1 locs1 ⟨h1, h2, h3⟩)
theorem r_putF (cx : Cx p s m args meth c cc nL y0 ret0 g A) (hw : WS g A s.heap ws H locs) {ref C : String} {T : u_T} {N ci index : Nat} (hin : ∀ w ∈ u_ws C T N, w ∈ lw_all) (ty0 : Nat → FieldType) (hty : ∀ k, k < N → parseFieldDescriptor (T k).2.2.1 = some (ty0 k)) (hnm : ∀ a, a < N → ∀ b, b < N → a ≠ b → (T a).2.1 ≠ (T b).2.1) (q0 : Nat) {fs : List Value} (he : ws[q0]? = some (a, .inr (ci, fs))) (hc : vwCl[ci]? = some (C, T, N)) (k : Nat) (hk : k < N) (hlink : Cond.fieldLink y0.cls index ref (T k).2.1 (T k).2.2.1 ∈ lw_all) (hsame : ∀ x, s.fieldFound? (T k).1 (T k).2.1 (T k).2.2.1 = some x → s.fieldFound? ref (T k).2.1 (T k).2.2.1 = some x) (hfin : (T k).2.2.2 = true) (hin2 : y0.name = "<init>") (hdecl : (T k).1 = y0.cls) {v : Value} (hn : narrow (ty0 k) v = v) (hfit : fits (ty0 k) v = true) (hl : k < fs.length)
    (hdg : decode cc pc = .ok (.putfield index, 3)) (kk : ∀ (H1 : Heap) (locs1 : List Loc), WS g A s.heap (ws.set q0 (a, .inr (ci, fs.set k v))) H1 locs1 → W p l e R s m args below meth c H1 locs1 cells slots Q (F0 m (pc + 3) ls rest)) : W p l e R s m args below meth c H locs cells slots Q (F0 m pc ls (v :: .ref a :: rest)) := by
  obtain ⟨hx, hb, hml, hown, hts, hr, hlocks, hK, -, -, hnm2⟩ := cx
  exact va_putF (D := g.1) hx hb hts hin ty0 hty hnm hown hK.1 hw.1 hw.2.1 hw.2.2 q0 he hc k hk (hts _ hlink) hsame hfin (hnm2.trans hin2) hdecl (hty k hk) hn hfit hl hdg (fun H1 locs1 h1 h2 h3 => kk H1 locs1 ⟨h1, h2, h3⟩)
/-! arrays, by a place that is a number -/
theorem r_iald (cx : Cx p s m args meth c cc nL y0 ret0 g A) (hw : WS g A s.heap ws H locs) (q0 : Nat) {n : Nat} {f : Nat → Int32} (ha : ws[q0]? = some (a, .inl (g.2 0, n, .inl f))) (k : Nat) {i : Int32} (hi : i = nI k) (hk : k < n) (hn : n < 2 ^ 31) (hdg : decode cc pc = .ok (.iaload, 1))
    (kk : W p l e R s m args below meth c H locs cells slots Q (F0 m (pc + 1) ls (.int (f k) :: rest))) : W p l e R s m args below meth c H locs cells slots Q (F0 m pc ls (.int i :: .ref a :: rest)) := by
  obtain ⟨hx, hb, hml, hown, hts, hr, hlocks, hK, -⟩ := cx
  subst hi
  refine va_iald hx hb hK.1 hw.1 q0 0 ha rfl (vp_in_nI hk hn) hdg ?_
  rw [nI_clamp (Nat.lt_trans hk hn)]
  exact kk
theorem r_bald (cx : Cx p s m args meth c cc nL y0 ret0 g A) (hw : WS g A s.heap ws H locs) (q0 : Nat) {n : Nat} {f : Nat → Int32} (ha : ws[q0]? = some (a, .inl (g.2 1, n, .inl f))) (k : Nat) {i : Int32} (hi : i = nI k) (hk : k < n) (hn : n < 2 ^ 31) (hdg : decode cc pc = .ok (.baload, 1))
    (kk : W p l e R s m args below meth c H locs cells slots Q (F0 m (pc + 1) ls (.int (f k) :: rest))) : W p l e R s m args below meth c H locs cells slots Q (F0 m pc ls (.int i :: .ref a :: rest)) := by
  obtain ⟨hx, hb, hml, hown, hts, hr, hlocks, hK, -⟩ := cx
  subst hi
  refine va_bald hx hb hK.1 hw.1 q0 1 ha rfl (vp_in_nI hk hn) hdg ?_
  rw [nI_clamp (Nat.lt_trans hk hn)]
  exact kk
theorem r_cald (cx : Cx p s m args meth c cc nL y0 ret0 g A) (hw : WS g A s.heap ws H locs) (q0 : Nat) {n : Nat} {f : Nat → Int32} (ha : ws[q0]? = some (a, .inl (g.2 2, n, .inl f))) (k : Nat) {i : Int32} (hi : i = nI k) (hk : k < n) (hn : n < 2 ^ 31) (hdg : decode cc pc = .ok (.caload, 1))
    (kk : W p l e R s m args below meth c H locs cells slots Q (F0 m (pc + 1) ls (.int (f k) :: rest))) : W p l e R s m args below meth c H locs cells slots Q (F0 m pc ls (.int i :: .ref a :: rest)) := by
  obtain ⟨hx, hb, hml, hown, hts, hr, hlocks, hK, -⟩ := cx
  subst hi
  refine va_cald hx hb hK.1 hw.1 q0 2 ha rfl (vp_in_nI hk hn) hdg ?_
  rw [nI_clamp (Nat.lt_trans hk hn)]
  exact kk
theorem r_aldK (cx : Cx p s m args meth c cc nL y0 ret0 g A) (hw : WS g A s.heap ws H locs) (q0 : Nat) {n v : Nat} {f : Nat → Option Nat} (ha : ws[q0]? = some (a, .inl (g.2 3, n, .inr (.inr (.inr (.inr f)))))) (k : Nat) {i : Int32} (hi : i = nI k) (hk : k < n) (hn : n < 2 ^ 31) (hf : f k = some v) (hdg : decode cc pc = .ok (.aaload, 1))
    (kk : W p l e R s m args below meth c H locs cells slots Q (F0 m (pc + 1) ls (.ref v :: rest))) : W p l e R s m args below meth c H locs cells slots Q (F0 m pc ls (.int i :: .ref a :: rest)) := by
  obtain ⟨hx, hb, hml, hown, hts, hr, hlocks, hK, -⟩ := cx
  subst hi
  refine va_aldq hx hb hK.1 hw.1 q0 3 ha rfl (vp_in_nI hk hn) hdg ?_
  rw [nI_clamp (Nat.lt_trans hk hn), hf]
  exact kk
theorem r_iast (cx : Cx p s m args meth c cc nL y0 ret0 g A) (hw : WS g A s.heap ws H locs) (q0 : Nat) {n : Nat} {f : Nat → Int32} (ha : ws[q0]? = some (a, .inl (g.2 0, n, .inl f))) (k : Nat) {i x : Int32} (hi : i = nI k) (hk : k < n) (hn : n < 2 ^ 31) (hdg : decode cc pc = .ok (.iastore, 1))
    (kk : ∀ (H1 : Heap) (locs1 : List Loc), WS g A s.heap (ws.set q0 (a, .inl (g.2 0, n, .inl (upd f k x)))) H1 locs1 → W p l e R s m args below meth c H1 locs1 cells slots Q (F0 m (pc + 1) ls rest)) : W p l e R s m args below meth c H locs cells slots Q (F0 m pc ls (.int x :: .int i :: .ref a :: rest)) := by
  obtain ⟨hx, hb, hml, hown, hts, hr, hlocks, hK, -⟩ := cx
  subst hi
  refine va_iast hx hb hK.1 hw.1 hw.2.1 hw.2.2 q0 0 ha rfl (vp_in_nI hk hn) hdg (fun H1 locs1 h1 h2 h3 => ?_)
  rw [nI_clamp (Nat.lt_trans hk hn)] at h1 h2
  exact kk H1 locs1 ⟨h1, h2, h3⟩
end ROW
