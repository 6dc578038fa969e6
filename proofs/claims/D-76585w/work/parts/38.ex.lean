/-! EXCEPTIONS: a refusal's constructor calls that of RuntimeException on an object of its own class -/
set_option maxRecDepth 100000
def exE : String := "java/lang/RuntimeException"
def exAt (X : String) : List Cond := Bundle.throwableAtoms ++ Bundle.chain0Atoms exE ["java/lang/Exception"] ++
  [.methodLink RX10 1 (Bundle.init0 exE), .instantiable X 7, .selects X Bundle.tFill0 Bundle.tFill0, .selects X Bundle.tFill Bundle.tFill,
   .lays X Bundle.tN "cause" "Ljava/lang/Throwable;", .lays X Bundle.tN "stackTrace" Bundle.steD, .lays X Bundle.tN "suppressedExceptions" Bundle.listD, .lays X Bundle.tN "detailMessage" "Ljava/lang/String;",
   .isRef (.static Bundle.tN "UNASSIGNED_STACK" Bundle.steD), .isRef (.static Bundle.tN "SUPPRESSED_SENTINEL" Bundle.listD),
   .fieldLink Bundle.tN 198 Bundle.tN "backtrace" "Ljava/lang/Object;", .lays Bundle.tN Bundle.tN "backtrace" "Ljava/lang/Object;", .lays X Bundle.tN "backtrace" "Ljava/lang/Object;"]
section VXX
variable {p : Program} {l : Launch} {e : Env} {R : Room} {s : State} {m₀ : MethodId} {args : Array Value} {below : List Frame} {meth : Method} {c : Code} {W : State} {cells slots : Nat}
set_option maxHeartbeats 1000000 in
theorem vx_ctorX (X : Stand p l e R s m₀ args below meth c W [] cells slots) (hexec : p.tables.exec = Jvm.exec) (htr : e.platform.stackTraces = false) {cls : String}
    (hown : s.vm.findClass RX10 = some m₀.cls) (h : ∀ a ∈ exAt cls, a.before args s = true)
    {a : Addr} {cX : ClassId} {kX : Class} {cell : Cell} (hfoundX : s.vm.findClass cls = some cX) (hkX : s.vm.classes[cX]? = some kX) (hcell : W.heap[a]? = some cell)
    (hcC : cell.cls = cX) (hcV : cell.vm = .none) (hcO : cell.monitor.owner = none) (hcN : cell.monitor.count = 0)
    (hsl : ∀ k, k < 5 → ∀ x, s.fieldFound? Bundle.tN (TX11 k).2.1 (TX11 k).2.2.1 = some x → cell.slots[x.2.2.2.slot]? = some .null)
    {g : JFrame} (hg : g.method = m₀) (hsize : g.locals.size = c.maxLocals) {rest : List Value} (hstack : g.stack = .ref a :: rest)
    (hd6 : decode c.code g.pc = .ok (.invokespecial 1, 3))
    (hRframes : 4 < R.frames) (hRlocals : 2 * g.monitorRoom + (rest.map fun v => v.category).sum + 67 ≤ R.locals) :
    ∃ (V : State) (ce : Cell) (L : List Loc), Stand p l e R s m₀ args below meth c (V.setCell a ce) ([] ++ L) cells slots ∧ (∀ y ∈ L, y.base = a) ∧ V.heap = W.heap ∧ ce.cls = cX ∧ ce.vm = .none ∧ ce.slots.size = cell.slots.size ∧
      ∀ target, Steps p.tables e below ((V.setCell a ce).setTop { g with stack := rest, pc := g.pc + 3 }) target → Steps p.tables e below (W.setTop g) target := by
  have howns : e.platform.frameOwnsMonitors = true := by rw [X.admits.platform]
  have hfin : e.platform.finalization = false := by rw [X.admits.platform]
  have hpl : e.platform.magicAccessors = ({} : Platform).magicAccessors := by rw [X.admits.platform]
  have hcls : Bundle.fit exE = true := by decide +kernel
  have a' : ∀ x, x ∈ exAt cls → x.holds args s none s [] = true := fun x hx => h x hx
  obtain ⟨T, Z, L, LZ, Y⟩ := ThrowableC.of_atoms (args := args) howns hfin hpl (fun x hx => h x (by simp [exAt, hx]))
  obtain ⟨P1, Ps, hlen, L1, hL, hP1m, hlink1, hlink⟩ := Bundle.chain0 (args := args) hpl Y.init0 ["java/lang/Exception"] exE hcls (by decide +kernel) (fun x hx => h x (by simp [exAt, hx]))
  obtain ⟨c1, kX', hc1, hk, hord, -, -, hn6⟩ := Cond.instantiable_spec (a' (.instantiable cls 7) (by simp [exAt]))
  cases Option.some.inj (hc1.symm.trans hfoundX)
  cases Option.some.inj (hkX.symm.trans hk)
  have hsel0 : selectMethod e.platform s.vm cell.cls T.fill0 = .method T.fill0 := by
    obtain ⟨c2, r2, m2, q1, q2, q3, q4, -⟩ := Cond.selects_spec (a' (.selects cls Bundle.tFill0 Bundle.tFill0) (by simp [exAt]))
    cases Option.some.inj (q1.symm.trans hfoundX)
    cases Option.some.inj (q2.symm.trans (State.methodFound?_of_named Y.fill0 (by decide)))
    cases Option.some.inj (q3.symm.trans Y.fill0)
    rw [Launch.admits_selectMethod X.admits, hcC]; exact q4
  have hselF : selectMethod e.platform s.vm cell.cls T.fill = .method T.fill := by
    obtain ⟨c2, r2, m2, q1, q2, q3, q4, -⟩ := Cond.selects_spec (a' (.selects cls Bundle.tFill Bundle.tFill) (by simp [exAt]))
    cases Option.some.inj (q1.symm.trans hfoundX)
    cases Option.some.inj (q2.symm.trans (State.methodFound?_of_named Y.fill (by decide)))
    cases Option.some.inj (q3.symm.trans Y.fill)
    rw [Launch.admits_selectMethod X.admits, hcC]; exact q4
  obtain ⟨cellS0, hcS0, hiss⟩ := Y.statics
  obtain ⟨u0, hu0⟩ := Cond.staticRefV Y.unassigned L.unassignedStatic L.statics hcS0 hiss (a' (.isRef (.static Bundle.tN "UNASSIGNED_STACK" Bundle.steD)) (by simp [exAt]))
  obtain ⟨sen, hsen⟩ := Cond.staticRefV Y.sentinel L.sentinelStatic L.statics hcS0 hiss (a' (.isRef (.static Bundle.tN "SUPPRESSED_SENTINEL" Bundle.listD)) (by simp [exAt]))
  obtain ⟨ci198, i198, fB, hk198, hg198, ha198, hsB, -, hnB, htB, hffB⟩ := Cond.ownField (t := .object "java/lang/Object") Y.found L.cls (by decide +kernel) (a' (.fieldLink Bundle.tN 198 Bundle.tN "backtrace" "Ljava/lang/Object;") (by simp [exAt])) (a' (.lays Bundle.tN Bundle.tN "backtrace" "Ljava/lang/Object;") (by simp [exAt])) e.platform hpl
  obtain ⟨cellS, hcS', heS, -, hkeep⟩ := X.same.2.2.2.2.2 T.aS cellS0 hcS0
  have hcellS : W.heap[T.aS]? = some cellS := hcS'
  have hknownS : cellS.vm ≠ .unknown := by
    rw [heS]; intro hu
    rw [show cellS0.vm = .unknown from hu] at hiss
    cases hiss
  have hneS : T.aS ≠ a := by
    intro e9
    rw [e9] at hcellS
    cases hcellS.symm.trans hcell
    have e8 : cell.vm = cellS0.vm := by rw [heS]
    rw [← e8, hcV] at hiss
    cases hiss
  obtain ⟨iM, hffM⟩ := Y.msg
  obtain ⟨tyC, dC, hdC, hdnC⟩ := Cond.laysAt hfoundX hk Y.cause (a' (.lays cls Bundle.tN "cause" "Ljava/lang/Throwable;") (by simp [exAt]))
  obtain ⟨tyS, dS, hdS, hdnS⟩ := Cond.laysAt hfoundX hk Y.stack (a' (.lays cls Bundle.tN "stackTrace" Bundle.steD) (by simp [exAt]))
  obtain ⟨tyP, dP, hdP, hdnP⟩ := Cond.laysAt hfoundX hk Y.supp (a' (.lays cls Bundle.tN "suppressedExceptions" Bundle.listD) (by simp [exAt]))
  obtain ⟨tyB, dB, hdB, hdnB⟩ := Cond.laysAt hfoundX hk hffB (a' (.lays cls Bundle.tN "backtrace" "Ljava/lang/Object;") (by simp [exAt]))
  have bC := Cond.laysApart hdB hdC hdnB hdnC (by rw [hnB, Y.causeName]; decide)
  have bS := Cond.laysApart hdB hdS hdnB hdnS (by rw [hnB, Y.stackName]; decide)
  have bP := Cond.laysApart hdB hdP hdnB hdnP (by rw [hnB, Y.suppName]; decide)
  have sB := hsl 4 (by decide) _ hffB
  have sC := hsl 0 (by decide) _ Y.cause
  have sS := hsl 1 (by decide) _ Y.stack
  have sP := hsl 2 (by decide) _ Y.supp
  have hTk : ∀ (f : Field) (v : Value), cell.slots[f.slot]? = some .null → kX.instanceTypes[f.slot]? = some f.type → fits f.type v = true → Takes s cell f v := by
    intro f v h1 h2 h3
    refine ⟨(Array.getElem?_eq_some_iff.mp h1).1, ?_⟩
    rw [hcC, hcV]
    simp [State.fitsSlot, State.slotType?, hk, hord, h2, h3]
  have hskip : SkipFacts T e.platform s (fun u => u) u0 ((preparedCellV T.toThrowableT cell a u0 sen).withEntry W.cur) :=
    ⟨{ ci198 := ci198, i198 := i198, fBack := fB }, ⟨hk198, hg198, ha198, hsB⟩, by
      simpa [preparedCellV, Cell.setSlot, Cell.withEntry, Array.getElem?_setIfInBounds, bC, bS, bP, bC.symm, bS.symm, bP.symm] using sB, fun _ _ => rfl⟩
  obtain ⟨tm, methC, cdC, kC, vm₁, hnC, -, -, -, -, -, -, -, hW₁, st1⟩ := Steps.initCold (tb := p.tables) (e := e) (below := below) (s := s) (U := W) X.here hexec X.warmed hpl hown (t := Bundle.init0 exE) rfl rfl (Bundle.fit_spec hcls).2
    (a' (.methodLink RX10 1 (Bundle.init0 exE)) (by simp [exAt])) (h (.instanceMethod (Bundle.init0 exE)) (by simp [exAt, Bundle.chain0Atoms, Bundle.passAtoms])) (bytes := Bundle.five) (maxL := 1) (h (.code (Bundle.init0 exE) Bundle.five 1 none) (by simp [exAt, Bundle.chain0Atoms, Bundle.passAtoms]))
    (f := g) hg (a := a) (rest := rest) hstack hd6
  cases Option.some.inj (hnC.symm.trans hP1m)
  have X₁ := X.noted hW₁
  obtain ⟨vm₂, X₂, st2⟩ := X₁.ctorPlainOffV hexec (g := { g with stack := rest }) hg hsize T L Z LZ (P1 :: Ps)
    (fun P hP => by rcases List.mem_cons.mp hP with rfl | hP; exact L1; exact hL P hP) ⟨hlink1, hlink⟩ (u0 := u0) (sen := sen) (self := a) (cell := cell) (cellS := cellS)
    hcell (fun k => by rw [hcV]; simp) (by rw [hcV]; simp) hcO hcN hsel0 hselF hcellS hneS hknownS (by rw [hkeep _ (by simp)]; exact hu0) (by rw [hkeep _ (by simp)]; exact hsen)
    (hTk _ _ sC tyC (by rw [Y.causeType]; rfl)) (hTk _ _ sS tyS (by rw [Y.stackType]; exact fits_refV_array _ u0)) (hTk _ _ sP tyP (by rw [Y.suppType]; exact fits_refV_object _ sen)) Y.objLocals hskip htr [] hd6
    (by simp only [List.length_cons, hlen, List.length_nil]; omega) (by simp only [List.length_cons, hlen, List.length_nil]; exact hRlocals)
  refine ⟨(W.setVm vm₁).setVm vm₂, _, _, X₂, fun y hy => ?_, rfl, hcC, hcV, by simp [preparedCellV, Cell.setSlot], fun target hwalk => st1 _ (fun acts => ?_)⟩
  · simp only [List.mem_cons, List.not_mem_nil, or_false] at hy
    rcases hy with rfl | rfl | rfl | rfl <;> rfl
  · rw [doInvoke_state]
    exact st2 _ hwalk
end VXX
