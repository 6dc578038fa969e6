/-! THE LAYER: one form of contract for all methods (worlds as lists of cells, answers and throws alike), rows over it -/
set_option maxRecDepth 100000
abbrev GG : Type := va_G × (Nat → ClassId)
def TNo : u_T := fun _ => ("", "", "I", false)
abbrev vwCl : List vw_C := [(RX0, TX0, 12), (RX8, TX8, 13), (RX2, TNo, 0), (RX3, TNo, 0), (RX4, TNo, 0), (RX5, TNo, 0), (RX6, TNo, 0), (RX7, TNo, 0), (RX9, TX9, 13), (RX12, TX12, 3), (RX11, TX11, 7), (RX13, TX13, 7), (RX15, TX15, 4), (RX16, TX16, 2), (RX17, TX17, 2), (RX18, TX18, 2), (RX20, TX20, 3), (RX21, TX21, 3), (RX22, TX22, 3)]
def tyG (d : Nat → ClassId) : List (ClassId × FieldType) := [(d 0, .int), (d 1, .byte), (d 2, .char), (d 3, .object RX1), (d 4, .object RX14)]
/-- the words that move with a run, but not in the lists -/
def nestW : Cond → Bool
  | .fieldLinkNest _ _ _ _ _ _ => true
  | .methodLinkNest _ _ _ _ => true
  | .castable _ _ => true
  | .declares _ => true
  | _ => false
theorem nestW_warm {w : Cond} (hw : nestW w = true) {s U : State} (hW : s.WarmedH U.vm) (hZ : va_Nw w s) : va_Nw w U := by
  cases w <;> first
    | exact va_Nw.warmF hW hZ
    | exact va_Nw.warmM hW hZ
    | exact va_Nw.warmC hW hZ
    | exact va_Nw.warmD hW hZ
    | exact absurd (show false = true from hw) Bool.false_ne_true
/-- what the tables say, all through a run -/
def KG (g : GG) (U : State) : Prop := va_K g.1 vwCl (tyG g.2) U ∧ (∀ w ∈ lw_tbl, nestW w = true → va_Nw w U) ∧ va_AO RX1 U ∧ va_AO RX14 U
theorem KG.moved {g : GG} {s U : State} (hW : s.WarmedH U.vm) (h : KG g s) : KG g U := ⟨va_K.moved hW.alike h.1, fun w hw hn => nestW_warm hn hW (h.2.1 w hw hn), h.2.2.1.moved hW.alike, h.2.2.2.moved hW.alike⟩
/-- what a throw reads of Throwable's statics -/
def ZG (A : Nat → Prop) (U : State) (H : Heap) : Prop := vx_Zq Bundle.tN "UNASSIGNED_STACK" Bundle.steD A U H ∧ vx_Zq Bundle.tN "SUPPRESSED_SENTINEL" Bundle.listD A U H
theorem ZG.moved {A : Nat → Prop} {u U : State} {H : Heap} (hvm : u.vm.Alike U.vm) (h : ZG A u H) : ZG A U H := ⟨vx_Zq.moved hvm h.1, vx_Zq.moved hvm h.2⟩
theorem ZG.kept {A : Nat → Prop} {U : State} {H H1 : Heap} (h : ZG A U H) (hq : ∀ a : Nat, a < H.size → ¬ A a → H1[a]? = H[a]?) : ZG A U H1 := ⟨h.1.kept hq, h.2.kept hq⟩
theorem ZG.narrow {A B : Nat → Prop} {U : State} {H : Heap} (h : ZG A U H) (hAB : ∀ q, B q → A q) : ZG B U H := ⟨h.1.narrow hAB, h.2.narrow hAB⟩
/-- the world of a method at heap H -/
def WS (g : GG) (A : Nat → Prop) (H0 : Heap) (ws : va_W) (H : Heap) (locs : List Loc) : Prop := va_P g.1 vwCl ws H ∧ va_D A ws ∧ va_S A H0 H locs
theorem WS.to {g : GG} {A : Nat → Prop} {H0 : Heap} {ws ws' : va_W} {H : Heap} {locs : List Loc} (h : WS g A H0 ws H locs) (e : ws = ws') : WS g A H0 ws' H locs := e ▸ h
def PreC (g : GG) (av : List Value) (w : va_W) (sz : Nat) : Array Value → State → Prop := va_Pc av (fun U => U.heap.size = sz ∧ va_P g.1 vwCl w U.heap ∧ KG g U ∧ va_D (fun _ => True) w ∧ ZG (va_A w sz) U U.heap)
theorem PreC.blind {g : GG} {av : List Value} {w : va_W} {sz : Nat} : FrameBlind (PreC g av w sz) := fun a U h mk q => by
  obtain ⟨q0, q1, qP, qK, qD, qZ⟩ := q
  exact ⟨q0, q1, qP, KG.moved (s := U) (U := U.calling h mk a) (State.WarmedH.refl U) qK, qD, ZG.moved (u := U) (U := U.calling h mk a) (Vm.Alike.refl U.vm) qZ⟩
def PostA (g : GG) (A : Nat → Prop) (post : Option Value → va_W → Prop) : Array Value → State → Outcome → State → Prop := fun _ st oc t => (∃ (v : Option Value) (w' : va_W), oc = .returned v ∧ post v w' ∧ va_P g.1 vwCl w' t.heap ∧ va_D A w') ∧ va_F A st t
/-- thrown: class ci (10 a refusal, 11 a fault) with its number, the world w0 behind it -/
def pxR (P : Nat → Int32 → va_W → Prop) : Nat → va_W → Prop := fun q w' => ∃ (ci : Nat) (num : Int32) (w0 : va_W) (vs : List Value), (ci = 10 ∨ ci = 11) ∧ P ci num w0 ∧ vs.length = 6 ∧ w' = w0 ++ [(q, .inr (ci, vs ++ [.int num]))]
def PxA (g : GG) (A : Nat → Prop) (px : Nat → va_W → Prop) : Addr → String → State → State → Prop := fun q _ st t => ∃ w' : va_W, px q w' ∧ va_P g.1 vwCl w' t.heap ∧ va_D A w' ∧ va_F A st t
abbrev rmC (f lo mc ms : Nat) : Room := { frames := f, cells := mc, slots := ms, locals := lo }
/-- a method's contract: from the world w with the arguments av it answers v with the world w' (post v w'), or throws (P) -/
def MC (l : Launch) (y : MethodName) (cc : ByteArray) (n : Nat) (ret : Option FieldType) (f lo mc ms : Nat) (g : GG) (av : List Value) (w : va_W) (post : Option Value → va_W → Prop) (P : Nat → Int32 → va_W → Prop) : Prop :=
  ∀ sz : Nat, vx_Met l y (ws_ y cc n ret) (rmC f lo mc ms) (PreC g av w sz) (PostA g (va_A w sz) post) (PxA g (va_A w sz) (pxR P)) mc ms (va_A w sz)
/-- .. of a method with a table of handlers -/
def MCH (l : Launch) (y : MethodName) (cc : ByteArray) (n : Nat) (ret : Option FieldType) (hh : List (Nat × Nat × Nat × Nat)) (f lo mc ms : Nat) (g : GG) (av : List Value) (w : va_W) (post : Option Value → va_W → Prop) (P : Nat → Int32 → va_W → Prop) : Prop :=
  ∀ sz : Nat, vx_Met l y (wsW_ y cc n ret hh) (rmC f lo mc ms) (PreC g av w sz) (PostA g (va_A w sz) post) (PxA g (va_A w sz) (pxR P)) mc ms (va_A w sz)
def noX : Nat → Int32 → va_W → Prop := fun _ _ _ => False
abbrev rt (v0 : Option Value) (w0 : va_W) : Option Value → va_W → Prop := fun v w' => v = v0 ∧ w' = w0
/-- what stands all through a method's run -/
def Cx (p : Program) (s : State) (m : MethodId) (args : Array Value) (meth : Method) (c : Code) (cc : ByteArray) (nL : Nat) (y : MethodName) (ret : Option FieldType) (g : GG) (A : Nat → Prop) : Prop :=
  p.tables.exec = Jvm.exec ∧ c.code = cc ∧ c.maxLocals = nL ∧ s.vm.findClass y.cls = some m.cls ∧ (∀ w ∈ lw_all, w.before args s = true) ∧ meth.sig.returnType = ret ∧ meth.locks = false ∧ KG g s ∧ ZG A s s.heap ∧ (∀ q, s.heap.size ≤ q → A q) ∧ meth.name = y.name
theorem MC.of {l : Launch} {y : MethodName} {cc : ByteArray} {n : Nat} {ret : Option FieldType} {f lo mc ms : Nat} {g : GG} {av : List Value} {w : va_W} {post : Option Value → va_W → Prop} {P : Nat → Int32 → va_W → Prop} (hy : plainName y.cls = true) (hav : (lg_sl av).length ≤ n)
    (body : ∀ (p : Program) (e : Env) (s : State) (m : MethodId) (args : Array Value) (below : List Frame) (meth : Method) (c : Code) (A : Nat → Prop) (ls : Array Slot), Cx p s m args meth c cc n y ret g A → (∀ x ∈ c.exceptionTable.toList, False) → WS g A s.heap w s.heap [] → lv_has ls n (lv_args 0 av) → W p l e (rmC f lo mc ms) s m args below meth c s.heap [] 0 0 (vx_MQ below (PostA g A post) (PxA g A (pxR P)) args s mc ms A) (F0 m 0 ls [])) : MC l y cc n ret f lo mc ms g av w post P := by
  intro sz
  refine vx_ofW (cc := cc) (maxL := n) (ret := ret) hy rfl ?_
  intro p e s m args below meth c s₁ B hml htab hv
  obtain ⟨rfl, hsz, hP, hK, hD0, hZ⟩ := hv
  have hts := atoms_spec (ws := ws_ y cc n ret) B.pre
  subst hsz
  have hl := lv_entry av (n := n) hav
  rw [lg_entry_eq]
  exact body p e s m _ below meth c (va_A w s.heap.size) _ ⟨B.exec, B.bytes, hml, findClass_of_methodNamed B.named, fun w h => hts w (List.mem_cons_of_mem _ h), B.returns, B.notSynchronized, hK, hZ, fun q h => Or.inr h, (name_of_methodNamed B.named B.method).1⟩ htab ⟨hP, hD0.self, va_S.rf⟩ hl
theorem MCH.of {l : Launch} {y : MethodName} {cc : ByteArray} {n : Nat} {ret : Option FieldType} {hh : List (Nat × Nat × Nat × Nat)} {f lo mc ms : Nat} {g : GG} {av : List Value} {w : va_W} {post : Option Value → va_W → Prop} {P : Nat → Int32 → va_W → Prop} (hy : plainName y.cls = true) (hav : (lg_sl av).length ≤ n)
    (body : ∀ (p : Program) (e : Env) (s : State) (m : MethodId) (args : Array Value) (below : List Frame) (meth : Method) (c : Code) (A : Nat → Prop) (ls : Array Slot), Cx p s m args meth c cc n y ret g A → c.exceptionTable.toList = tableOf hh → WS g A s.heap w s.heap [] → lv_has ls n (lv_args 0 av) → W p l e (rmC f lo mc ms) s m args below meth c s.heap [] 0 0 (vx_MQ below (PostA g A post) (PxA g A (pxR P)) args s mc ms A) (F0 m 0 ls [])) : MCH l y cc n ret hh f lo mc ms g av w post P := by
  intro sz
  refine vx_ofWH (cc := cc) (maxL := n) (ret := ret) (hh := hh) hy rfl ?_
  intro p e s m args below meth c s₁ B hml hv
  obtain ⟨rfl, hsz, hP, hK, hD0, hZ⟩ := hv
  have hts := atoms_spec (ws := wsW_ y cc n ret hh) B.pre
  subst hsz
  have hl := lv_entry av (n := n) hav
  rw [lg_entry_eq]
  exact body p e s m _ below meth c (va_A w s.heap.size) _ ⟨B.exec, B.bytes, hml, findClass_of_methodNamed B.named, fun w h => hts w (List.mem_cons_of_mem _ h), B.returns, B.notSynchronized, hK, hZ, fun q h => Or.inr h, (name_of_methodNamed B.named B.method).1⟩ (vx_table (x := y) B (hts _ List.mem_cons_self)) ⟨hP, hD0.self, va_S.rf⟩ hl
/-! putting a callee's cells back in their places -/
def wput : va_W → List Nat → va_W → va_W
  | ws, i :: is, x :: xs => wput (ws.set i x) is xs
  | ws, _, _ => ws
theorem wput_len : ∀ (is : List Nat) (xs ws : va_W), (wput ws is xs).length = ws.length
  | [], xs, ws => by simp [wput]
  | i :: is, [], ws => by simp [wput]
  | i :: is, x :: xs, ws => by
    show (wput (ws.set i x) is xs).length = ws.length
    rw [wput_len is xs (ws.set i x), List.length_set]
theorem wput_off : ∀ (is : List Nat) (xs ws : va_W) (j : Nat), j ∉ is → (wput ws is xs)[j]? = ws[j]?
  | [], xs, ws, j, _ => by simp [wput]
  | i :: is, [], ws, j, _ => by simp [wput]
  | i :: is, x :: xs, ws, j, h => by
    show (wput (ws.set i x) is xs)[j]? = ws[j]?
    rw [wput_off is xs (ws.set i x) j (fun q => h (List.mem_cons_of_mem _ q))]
    exact List.getElem?_set_ne (fun q => h (by rw [← q]; exact List.mem_cons_self))
theorem wput_on : ∀ (is : List Nat) (xs ws : va_W), va_nd is = true → is.length = xs.length → (∀ i ∈ is, i < ws.length) → ∀ (k i : Nat), is[k]? = some i → (wput ws is xs)[i]? = xs[k]?
  | [], xs, ws, _, _, _, k, i, h => by simp at h
  | i :: is, [], ws, _, hl, _, k, j, _ => by simp at hl
  | i :: is, x :: xs, ws, hn, hl, hr, k, j, h => by
    simp only [va_nd, Bool.and_eq_true, decide_eq_true_eq] at hn
    show (wput (ws.set i x) is xs)[j]? = _
    cases k with
    | zero =>
      have e : i = j := by simpa using h
      subst e
      rw [wput_off is xs (ws.set i x) i hn.1]
      have := hr i List.mem_cons_self
      simp [List.getElem?_set, this]
    | succ k =>
      have h2 : is[k]? = some j := by simpa using h
      rw [wput_on is xs (ws.set i x) hn.2 (by simpa using hl) (fun q hq => by rw [List.length_set]; exact hr q (List.mem_cons_of_mem _ hq)) k j h2]
      simp
theorem wpick {α : Type} (f : Nat → Option α) : ∀ (is : List Nat) (wc : List α), is.map f = wc.map some → is.filterMap f = wc
  | [], [], _ => rfl
  | [], _ :: _, h => by simp at h
  | _ :: _, [], h => by simp at h
  | i :: is, x :: wc, h => by
    simp only [List.map_cons, List.cons.injEq] at h
    rw [List.filterMap_cons, h.1]
    simp only [wpick f is wc h.2]
theorem wjoin {A0 : Nat → Prop} {D : va_G} {cl : List vw_C} {ws wc w1 : va_W} {H H1 : Heap} (hP : va_P D cl ws H) (hD : va_D A0 ws) (isC : List Nat) (hC : isC.map (fun i => ws[i]?) = wc.map some) (hn : va_nd isC = true)
    (hk : ∀ q : Nat, q < H.size → ¬ va_A wc H.size q → H1[q]? = H[q]?) (hF : ∀ q, va_A wc H.size q → A0 q) (hP1 : va_P D cl w1 H1) (hD1 : va_D (va_A wc H.size) w1) (ha : (w1.take wc.length).map Prod.fst = wc.map Prod.fst) :
    va_P D cl (wput ws isC (w1.take wc.length) ++ w1.drop wc.length) H1 ∧ va_D A0 (wput ws isC (w1.take wc.length) ++ w1.drop wc.length) := by
  have hlen : isC.length = wc.length := by simpa using congrArg List.length hC
  have hlt : (w1.take wc.length).length = wc.length := by simpa using congrArg List.length ha
  have hCk : ∀ (k i : Nat), isC[k]? = some i → ∃ q, ws[i]? = some q ∧ wc[k]? = some q := by
    intro k i h
    have h1 : (isC.map (fun i => ws[i]?))[k]? = some (ws[i]?) := by rw [List.getElem?_map, h]; rfl
    rw [hC, List.getElem?_map] at h1
    cases hw : wc[k]? with
    | none => rw [hw] at h1; cases h1
    | some q => rw [hw] at h1; exact ⟨q, (Option.some.inj h1).symm, rfl⟩
  have hr : ∀ i ∈ isC, i < ws.length := by
    intro i hi
    obtain ⟨k, hk'⟩ := List.getElem?_of_mem hi
    obtain ⟨q, hq, -⟩ := hCk k i hk'
    exact (List.getElem?_eq_some_iff.mp hq).1
  have hon := wput_on isC (w1.take wc.length) ws hn (by rw [hlen, hlt]) hr
  have hoff := wput_off isC (w1.take wc.length) ws
  have haddr : ∀ (k : Nat) (x y : Nat × va_E), (w1.take wc.length)[k]? = some x → wc[k]? = some y → x.1 = y.1 := by
    intro k x y hx hy
    have h1 : ((w1.take wc.length).map Prod.fst)[k]? = some x.1 := by rw [List.getElem?_map, hx]; rfl
    have h2 : (wc.map Prod.fst)[k]? = some y.1 := by rw [List.getElem?_map, hy]; rfl
    rw [ha] at h1
    exact Option.some.inj (h1.symm.trans h2)
  -- an entry of the left part: its address is that of ws there
  have hleft : ∀ (j : Nat) (x : Nat × va_E), (wput ws isC (w1.take wc.length))[j]? = some x → (∃ y, ws[j]? = some y ∧ y.1 = x.1) ∧ ((∃ k : Nat, w1[k]? = some x) ∨ (ws[j]? = some x ∧ j ∉ isC)) := by
    intro j x hx
    by_cases hj : j ∈ isC
    · obtain ⟨k, hk'⟩ := List.getElem?_of_mem hj
      rw [hon k j hk'] at hx
      obtain ⟨y, hy1, hy2⟩ := hCk k j hk'
      refine ⟨⟨y, hy1, (haddr k x y hx hy2).symm⟩, Or.inl ⟨k, ?_⟩⟩
      rw [List.getElem?_take] at hx
      by_cases hkl : k < wc.length
      · rw [if_pos hkl] at hx; exact hx
      · rw [if_neg hkl] at hx; cases hx
    · rw [hoff j hj] at hx
      exact ⟨⟨x, hx, rfl⟩, Or.inr ⟨hx, hj⟩⟩
  have hadrC : ∀ (q : Nat), (∃ (k : Nat) (e : va_E), wc[k]? = some (q, e)) → ∃ i ∈ isC, ∃ y, ws[i]? = some y ∧ y.1 = q := by
    rintro q ⟨k, e, hw⟩
    have hkl : k < isC.length := by rw [hlen]; exact (List.getElem?_eq_some_iff.mp hw).1
    obtain ⟨y, hy1, hy2⟩ := hCk k isC[k] (List.getElem?_eq_getElem hkl)
    cases hy2.symm.trans hw
    exact ⟨isC[k], List.getElem_mem hkl, _, hy1, rfl⟩
  have hright : ∀ (k : Nat) (x : Nat × va_E), (w1.drop wc.length)[k]? = some x → H.size ≤ x.1 := by
    intro k x hx
    rw [List.getElem?_drop] at hx
    rcases hD1.2 _ x hx with ⟨i, e, he⟩ | h
    · exfalso
      have hil : i < wc.length := (List.getElem?_eq_some_iff.mp he).1
      have hil1 : i < (w1.take wc.length).length := by rw [hlt]; exact hil
      obtain ⟨z, hz⟩ : ∃ z, (w1.take wc.length)[i]? = some z := ⟨_, List.getElem?_eq_getElem hil1⟩
      have hza := haddr i z _ hz he
      rw [List.getElem?_take, if_pos hil] at hz
      have := hD1.1 _ _ _ _ hz hx hza
      omega
    · exact h
  refine ⟨fun j x hx => ?_, fun i j x y hx hy hxy => ?_, fun j x hx => ?_⟩
  · by_cases hj : j < (wput ws isC (w1.take wc.length)).length
    · rw [List.getElem?_append_left hj] at hx
      rcases (hleft j x hx).2 with ⟨k, hk'⟩ | ⟨h1, h2⟩
      · exact hP1 k x hk'
      · refine (hP j x h1).kept (hk x.1 (hP j x h1).lt ?_)
        rintro (h | h)
        · obtain ⟨i, hi, y, hy, hyx⟩ := hadrC x.1 h
          exact h2 (by rw [hD.1 j i x y h1 hy hyx.symm]; exact hi)
        · exact absurd (hP j x h1).lt (by omega)
    · rw [List.getElem?_append_right (by omega), List.getElem?_drop] at hx
      exact hP1 _ x hx
  · by_cases hi : i < (wput ws isC (w1.take wc.length)).length
    · by_cases hj : j < (wput ws isC (w1.take wc.length)).length
      · rw [List.getElem?_append_left hi] at hx
        rw [List.getElem?_append_left hj] at hy
        obtain ⟨x', hx1, hx2⟩ := (hleft i x hx).1
        obtain ⟨y', hy1, hy2⟩ := (hleft j y hy).1
        exact hD.1 i j x' y' hx1 hy1 (by rw [hx2, hy2]; exact hxy)
      · rw [List.getElem?_append_left hi] at hx
        rw [List.getElem?_append_right (by omega)] at hy
        obtain ⟨x', hx1, hx2⟩ := (hleft i x hx).1
        have h1 := (hP i x' hx1).lt
        have h2 := hright _ y hy
        omega
    · by_cases hj : j < (wput ws isC (w1.take wc.length)).length
      · rw [List.getElem?_append_right (by omega)] at hx
        rw [List.getElem?_append_left hj] at hy
        obtain ⟨y', hy1, hy2⟩ := (hleft j y hy).1
        have h1 := (hP j y' hy1).lt
        have h2 := hright _ x hx
        omega
      · rw [List.getElem?_append_right (by omega), List.getElem?_drop] at hx
        rw [List.getElem?_append_right (by omega), List.getElem?_drop] at hy
        have := hD1.1 _ _ x y hx hy hxy
        omega
  · by_cases hj : j < (wput ws isC (w1.take wc.length)).length
    · rw [List.getElem?_append_left hj] at hx
      obtain ⟨y, hy1, hy2⟩ := (hleft j x hx).1
      rw [← hy2]
      exact hD.2 j y hy1
    · rw [List.getElem?_append_right (by omega), List.getElem?_drop] at hx
      exact hF _ (hD1.2 _ x hx)
