/-! ROWS for inherited, overriding, abstract and super's methods, and for links through a nest -/
set_option maxRecDepth 100000
theorem lw_U {own : String} {idx : Nat} {C owner : String} {x y : MethodName} {b : ByteArray} {L : Nat} {r : Option FieldType} (h1 : Cond.methodLink own idx x ∈ lw_all) (h2 : Cond.sameMethod x.cls owner x.name x.desc ∈ lw_all) (h3 : Cond.selects C x y ∈ lw_all) (h4 : Cond.instanceMethod y ∈ lw_all) (h5 : Cond.initialized y.cls ∈ lw_all) (h6 : Cond.code y b L r ∈ lw_all) : GoodIn lw_all (va_wsU own idx C owner x y (ws_ y b L r)) := by
  refine lw_app ?_ (lw_meth h6)
  intro w hw
  simp only [List.mem_cons, List.not_mem_nil, or_false] at hw
  rcases hw with e | e | e | e | e
  · rw [e]; exact h1
  · rw [e]; exact h2
  · rw [e]; exact h3
  · rw [e]; exact h4
  · rw [e]; exact h5
theorem lw_O {own : String} {idx : Nat} {C owner : String} {x y : MethodName} {b : ByteArray} {L : Nat} {r : Option FieldType} (h1 : Cond.methodLink own idx x ∈ lw_all) (h2 : Cond.sameMethod x.cls owner x.name x.desc ∈ lw_all) (h0 : Cond.instanceMethod ⟨owner, x.name, x.desc⟩ ∈ lw_all) (h3 : Cond.selects C x y ∈ lw_all) (h4 : Cond.instanceMethod y ∈ lw_all) (h5 : Cond.initialized y.cls ∈ lw_all) (h6 : Cond.code y b L r ∈ lw_all) : GoodIn lw_all (va_wsO own idx C owner x y (ws_ y b L r)) := by
  refine lw_app ?_ (lw_meth h6)
  intro w hw
  simp only [List.mem_cons, List.not_mem_nil, or_false] at hw
  rcases hw with e | e | e | e | e | e
  · rw [e]; exact h1
  · rw [e]; exact h2
  · rw [e]; exact h0
  · rw [e]; exact h3
  · rw [e]; exact h4
  · rw [e]; exact h5
theorem lw_SU {own : String} {idx : Nat} {y : MethodName} {b : ByteArray} {L : Nat} {r : Option FieldType} (h1 : Cond.methodLink own idx y ∈ lw_all) (h2 : Cond.sameMethod y.cls y.cls y.name y.desc ∈ lw_all) (h3 : Cond.superclass own y.cls ∈ lw_all) (h4 : Cond.instanceMethod y ∈ lw_all) (h5 : Cond.initialized y.cls ∈ lw_all) (h6 : Cond.code y b L r ∈ lw_all) : GoodIn lw_all (va_wsSU own idx y (ws_ y b L r)) := by
  refine lw_app ?_ (lw_meth h6)
  intro w hw
  simp only [List.mem_cons, List.not_mem_nil, or_false] at hw
  rcases hw with e | e | e | e | e
  · rw [e]; exact h1
  · rw [e]; exact h2
  · rw [e]; exact h3
  · rw [e]; exact h4
  · rw [e]; exact h5
section ROWU
variable {p : Program} {l : Launch} {e : Env} {R : Room} {s : State} {m : MethodId} {args : Array Value} {below : List Frame} {meth : Method} {c : Code} {H : Heap} {locs : List Loc} {cells slots : Nat} {Q : State → Prop}
variable {cc : ByteArray} {pc nL : Nat} {y0 : MethodName} {ret0 : Option FieldType} {g : GG} {A : Nat → Prop} {ls : Array Slot} {rest : List Value} {ws : va_W} {a : Nat}
variable {x y : MethodName} {bytes : ByteArray} {maxL f lo mc ms n index : Nat} {ret : Option FieldType} {wc : va_W} {As st0 : List Value} {b : Nat} {C owner host : String}
variable {post : Option Value → va_W → Prop} {P : Nat → Int32 → va_W → Prop}
/-- an inherited, overriding or abstract method's call -/
theorem r_U (cx : Cx p s m args meth c cc nL y0 ret0 g A) (hw : WS g A s.heap ws H locs) (hM : MC l y bytes maxL ret f lo mc ms g (.ref b :: As) wc post P) (cw : va_CU R s args y0.cls C owner index x y bytes maxL ret (ws_ y bytes maxL ret) (rmC f lo mc ms) mc ms n) (hrec : ∃ cell : Cell, H[b]? = some cell ∧ cell.vm.isStatics = false ∧ s.vm.findClass C = some cell.cls) (isC : List Nat) (hC : isC.map (fun i => ws[i]?) = wc.map some) (hn : va_nd isC = true) (hAs : As.length = n) (hls : ls.size = nL) (hst : st0 = As.reverse ++ .ref b :: rest) (hcat : (rest.map fun v => v.category).sum ≤ 8) (hdg : decode cc pc = .ok (.invokevirtual index, 3)) (hf : cells + mc ≤ R.cells ∧ slots + ms ≤ R.slots) :
    vx_Run p l e R s m args below meth c H locs cells slots mc ms (F0 m pc ls st0) rest (PostA g (va_A wc H.size) post (Value.ref b :: As).toArray) (PxA g (va_A wc H.size) (pxR P)) (va_A wc H.size) := by
  obtain ⟨hx, hb, hml, hown, hts, hr, hlocks, hK, hZ, hA, -⟩ := cx
  exact vx_runU ⟨hx, hb, hml, hown, hts⟩ (hM H.size) cw ⟨PreC.blind, hrec, r_pre hK hZ hA hw isC hC hn⟩ rfl hAs hls hst (lv_room hcat) hdg hf
/-- super.m(..) -/
theorem r_SU {cC : ClassId} (hat : ClassAt s C cC) (cx : Cx p s m args meth c cc nL y0 ret0 g A) (hw : WS g A s.heap ws H locs) (hM : MC l y bytes maxL ret f lo mc ms g (.ref b :: As) wc post P) (cw : va_CS R s args y0.cls index y bytes maxL ret (ws_ y bytes maxL ret) (rmC f lo mc ms) mc ms n) (hrec : ∃ cell : Cell, H[b]? = some cell ∧ cell.vm.isStatics = false ∧ s.vm.findClass C = some cell.cls) (isC : List Nat) (hC : isC.map (fun i => ws[i]?) = wc.map some) (hn : va_nd isC = true) (hAs : As.length = n) (hls : ls.size = nL) (hst : st0 = As.reverse ++ .ref b :: rest) (hcat : (rest.map fun v => v.category).sum ≤ 8) (hdg : decode cc pc = .ok (.invokespecial index, 3)) (hf : cells + mc ≤ R.cells ∧ slots + ms ≤ R.slots) :
    vx_Run p l e R s m args below meth c H locs cells slots mc ms (F0 m pc ls st0) rest (PostA g (va_A wc H.size) post (Value.ref b :: As).toArray) (PxA g (va_A wc H.size) (pxR P)) (va_A wc H.size) := by
  obtain ⟨hx, hb, hml, hown, hts, hr, hlocks, hK, hZ, hA, -⟩ := cx
  exact vx_runSU hat ⟨hx, hb, hml, hown, hts⟩ (hM H.size) cw ⟨PreC.blind, hrec, r_pre hK hZ hA hw isC hC hn⟩ rfl hAs hls hst (lv_room hcat) hdg hf
/-- what a call through a nest's link asks -/
theorem r_cN {own : String} (n : Nat) (hts : ∀ w ∈ lw_all, w.before args s = true) (hK : KG g s) (hcode : Cond.code y bytes maxL ret ∈ lw_all) (hl : Cond.methodLinkNest own index y host ∈ lw_tbl) (hini : Cond.initialized y.cls ∈ lw_all)
    (hd : y.cls ≠ "java/lang/invoke/MethodHandle" ∧ y.cls ≠ "java/lang/invoke/VarHandle" ∧ (parseMethodDescriptor y.desc).map (fun d => d.parameters.length) = some n) (hR : f + 1 ≤ R.frames ∧ 8 + (maxL + 11) + lo ≤ R.locals) : va_CN R s args own index y host bytes maxL ret (ws_ y bytes maxL ret) (rmC f lo mc ms) mc ms n :=
  va_cnB n hts (lw_meth hcode) rfl rfl rfl (hK.2.1 _ hl rfl) (hts _ hini) hd hR
theorem r_VN (cx : Cx p s m args meth c cc nL y0 ret0 g A) (hw : WS g A s.heap ws H locs) (hM : MC l y bytes maxL ret f lo mc ms g (.ref b :: As) wc post P) (cw : va_CN R s args y0.cls index y host bytes maxL ret (ws_ y bytes maxL ret) (rmC f lo mc ms) mc ms n ∧ (Cond.instanceMethod y).before args s = true ∧ (Cond.selects C y y).before args s = true) (hrec : ∃ cell : Cell, H[b]? = some cell ∧ cell.vm.isStatics = false ∧ s.vm.findClass C = some cell.cls) (isC : List Nat) (hC : isC.map (fun i => ws[i]?) = wc.map some) (hn : va_nd isC = true) (hAs : As.length = n) (hls : ls.size = nL) (hst : st0 = As.reverse ++ .ref b :: rest) (hcat : (rest.map fun v => v.category).sum ≤ 8) (hdg : decode cc pc = .ok (.invokevirtual index, 3)) (hf : cells + mc ≤ R.cells ∧ slots + ms ≤ R.slots) :
    vx_Run p l e R s m args below meth c H locs cells slots mc ms (F0 m pc ls st0) rest (PostA g (va_A wc H.size) post (Value.ref b :: As).toArray) (PxA g (va_A wc H.size) (pxR P)) (va_A wc H.size) := by
  obtain ⟨hx, hb, hml, hown, hts, hr, hlocks, hK, hZ, hA, -⟩ := cx
  exact vx_runVN ⟨hx, hb, hml, hown, hts⟩ (hM H.size) cw ⟨PreC.blind, hrec, r_pre hK hZ hA hw isC hC hn⟩ rfl hAs hls hst (lv_room hcat) hdg hf
theorem r_SN (cx : Cx p s m args meth c cc nL y0 ret0 g A) (hw : WS g A s.heap ws H locs) (hM : MC l y bytes maxL ret f lo mc ms g As wc post P) (cw : va_CN R s args y0.cls index y host bytes maxL ret (ws_ y bytes maxL ret) (rmC f lo mc ms) mc ms n ∧ (Cond.static y).before args s = true ∧ True) (isC : List Nat) (hC : isC.map (fun i => ws[i]?) = wc.map some) (hn : va_nd isC = true) (hAs : As.length = n) (hls : ls.size = nL) (hst : st0 = As.reverse ++ rest) (hcat : (rest.map fun v => v.category).sum ≤ 8) (hdg : decode cc pc = .ok (.invokestatic index, 3)) (hf : cells + mc ≤ R.cells ∧ slots + ms ≤ R.slots) :
    vx_Run p l e R s m args below meth c H locs cells slots mc ms (F0 m pc ls st0) rest (PostA g (va_A wc H.size) post As.toArray) (PxA g (va_A wc H.size) (pxR P)) (va_A wc H.size) := by
  obtain ⟨hx, hb, hml, hown, hts, hr, hlocks, hK, hZ, hA, -⟩ := cx
  exact vx_runSN ⟨hx, hb, hml, hown, hts⟩ (hM H.size) cw ⟨PreC.blind, r_pre hK hZ hA hw isC hC hn⟩ rfl hAs hls hst (lv_room hcat) hdg hf
theorem r_IN (cx : Cx p s m args meth c cc nL y0 ret0 g A) (hw : WS g A s.heap ws H locs) (hM : MC l y bytes maxL none f lo mc ms g (.ref b :: As) wc post P) (cw : va_CN R s args y0.cls index y host bytes maxL none (ws_ y bytes maxL none) (rmC f lo mc ms) mc ms n ∧ y.name = "<init>" ∧ (Cond.instanceMethod y).before args s = true) (isC : List Nat) (hC : isC.map (fun i => ws[i]?) = wc.map some) (hn : va_nd isC = true) (hAs : As.length = n) (hls : ls.size = nL) (hst : st0 = As.reverse ++ .ref b :: rest) (hcat : (rest.map fun v => v.category).sum ≤ 8) (hdg : decode cc pc = .ok (.invokespecial index, 3)) (hf : cells + mc ≤ R.cells ∧ slots + ms ≤ R.slots) :
    vx_Run p l e R s m args below meth c H locs cells slots mc ms (F0 m pc ls st0) rest (PostA g (va_A wc H.size) post (Value.ref b :: As).toArray) (PxA g (va_A wc H.size) (pxR P)) (va_A wc H.size) := by
  obtain ⟨hx, hb, hml, hown, hts, hr, hlocks, hK, hZ, hA, -⟩ := cx
  exact vx_runIN ⟨hx, hb, hml, hown, hts⟩ (hM H.size) cw ⟨PreC.blind, r_pre hK hZ hA hw isC hC hn⟩ rfl hAs hls hst (lv_room hcat) hdg hf
theorem r_at {ci : Nat} {r : vw_C} (hK : KG g s) (hc : vwCl[ci]? = some r) : ClassAt s r.1 (g.1.1 ci) := (hK.1.1 ci r hc).2
end ROWU
