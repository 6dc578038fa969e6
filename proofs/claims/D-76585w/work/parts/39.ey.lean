/-! EXCEPTIONS, 2: the words of the constructor; what it leaves -/
set_option maxRecDepth 100000
theorem exAt_11 {args : Array Value} {s : State} {g : GG} {A : Nat → Prop} (hts : ∀ w ∈ lw_all, w.before args s = true) (hK : KG g s) (hZ : ZG A s s.heap) : ∀ w ∈ exAt RX11, w.before args s = true := vx_c (hts _ q95) (vx_c (hts _ q326) (vx_c (hts _ q335) (vx_c (hts _ q338) (vx_c (hts _ q341) (vx_c (hts _ q343) (vx_c (hts _ q327) (vx_c (hts _ q328) (vx_c (hts _ q119) (vx_c (hts _ q120) (vx_c (hts _ q329) (vx_c (hts _ q334) (vx_c (hts _ q339) (vx_c (hts _ q359) (vx_c (hts _ q316) (vx_c (hts _ q360) (vx_c (hts _ q318) (vx_c (hts _ q361) (vx_c (hts _ q320) (vx_c (hts _ q330) (vx_c (hZ.1.2.word) (vx_c (hts _ q332) (vx_c (hZ.2.2.word) (vx_c (hts _ q322) (vx_c (hts _ q351) (vx_c (hts _ q352) (vx_c (hts _ q353) (vx_c (hts _ q354) (vx_c (va_Nw.use rfl (hK.2.1 _ q309 rfl)) (vx_c (hts _ q354) (vx_c (hts _ q355) (vx_c (hts _ q356) (vx_c (hts _ q327) (vx_c (va_Nw.use rfl (hK.2.1 _ q311 rfl)) (vx_c (hts _ q350) (vx_c (hts _ q304) (vx_c (hts _ q313) (vx_c (hts _ q314) (vx_c (hts _ q315) (vx_c (hts _ q317) (vx_c (hts _ q319) (vx_c (hts _ q321) (vx_c (vx_isRefq hZ.1.1) (vx_c (vx_isRefq hZ.2.1) (vx_c (hts _ q358) (vx_c (hts _ q324) (vx_c (hts _ q323) (vx_n)))))))))))))))))))))))))))))))))))))))))))))))
theorem exAt_13 {args : Array Value} {s : State} {g : GG} {A : Nat → Prop} (hts : ∀ w ∈ lw_all, w.before args s = true) (hK : KG g s) (hZ : ZG A s s.heap) : ∀ w ∈ exAt RX13, w.before args s = true := vx_c (hts _ q95) (vx_c (hts _ q326) (vx_c (hts _ q335) (vx_c (hts _ q338) (vx_c (hts _ q341) (vx_c (hts _ q343) (vx_c (hts _ q327) (vx_c (hts _ q328) (vx_c (hts _ q119) (vx_c (hts _ q120) (vx_c (hts _ q329) (vx_c (hts _ q334) (vx_c (hts _ q339) (vx_c (hts _ q359) (vx_c (hts _ q316) (vx_c (hts _ q360) (vx_c (hts _ q318) (vx_c (hts _ q361) (vx_c (hts _ q320) (vx_c (hts _ q330) (vx_c (hZ.1.2.word) (vx_c (hts _ q332) (vx_c (hZ.2.2.word) (vx_c (hts _ q322) (vx_c (hts _ q351) (vx_c (hts _ q352) (vx_c (hts _ q353) (vx_c (hts _ q354) (vx_c (va_Nw.use rfl (hK.2.1 _ q309 rfl)) (vx_c (hts _ q354) (vx_c (hts _ q355) (vx_c (hts _ q356) (vx_c (hts _ q327) (vx_c (va_Nw.use rfl (hK.2.1 _ q311 rfl)) (vx_c (hts _ q350) (vx_c (hts _ q409) (vx_c (hts _ q411) (vx_c (hts _ q337) (vx_c (hts _ q412) (vx_c (hts _ q413) (vx_c (hts _ q414) (vx_c (hts _ q415) (vx_c (vx_isRefq hZ.1.1) (vx_c (vx_isRefq hZ.2.1) (vx_c (hts _ q358) (vx_c (hts _ q324) (vx_c (hts _ q416) (vx_n)))))))))))))))))))))))))))))))))))))))))))))))
/-- nobody holds its monitor -/
def monFree (H : Heap) (a : Nat) : Prop := ∀ cell : Cell, H[a]? = some cell → cell.monitor.owner = none ∧ cell.monitor.count = 0
def ex0 : List Value := [.null, .null, .null, .null, .null, .int 0, .int 0]
section ROWX
variable {p : Program} {l : Launch} {e : Env} {R : Room} {s : State} {m : MethodId} {args : Array Value} {below : List Frame} {meth : Method} {c : Code} {cells slots : Nat} {Q : State → Prop}
variable {cc : ByteArray} {pc nL : Nat} {ret0 : Option FieldType} {g : GG} {A : Nat → Prop} {ls : Array Slot} {rest : List Value} {a : Nat}
/-- RuntimeException's constructor, called from Refusal's on a refusal -/
theorem r_ctorE (cx : Cx p s m args meth c cc nL yX10_init ret0 g A) (hl : l.stackTraces = false) {ci : Nat} {X : String} {T0 : u_T} (hc : vwCl[ci]? = some (X, T0, 7)) (hT0 : ∀ k, k < 5 → T0 k = TX11 k) (hat : ∀ w ∈ exAt X, w.before args s = true)
    (hw : WS g A s.heap [(a, .inr (ci, ex0))] s.heap []) (hm : monFree s.heap a) (hls : ls.size = nL) (hdg : decode cc pc = .ok (.invokespecial 1, 3)) (hRf : 4 < R.frames) (hRl : (rest.map fun v => v.category).sum + 67 ≤ R.locals)
    (kk : ∀ (vs : List Value) (H1 : Heap) (L : List Loc), vs.length = 7 → WS g A s.heap [(a, .inr (ci, vs))] H1 L → W p l e R s m args below meth c H1 L cells slots Q (F0 m (pc + 3) ls rest)) :
    W p l e R s m args below meth c s.heap [] cells slots Q (F0 m pc ls (.ref a :: rest)) := by
  obtain ⟨hx, hb, hml, hown, hts, hr, hlocks, hK, hZ, hA, -⟩ := cx
  intro T hT X9
  have htr : e.platform.stackTraces = false := (show e.platform.stackTraces = l.stackTraces by rw [X9.admits.platform]).trans hl
  obtain ⟨r, hcr, cell, h1, h2, h3, h4⟩ := hw.1 0 _ rfl
  cases hc.symm.trans hcr
  obtain ⟨hsl, hcl⟩ := hK.1.1 ci _ hc
  obtain ⟨hf, kX, hkX, -⟩ := hcl
  have hsl : ∀ k, k < 7 → SlotIs s (T0 k).1 (T0 k).2.1 (T0 k).2.2.1 (g.1.2 ci k) := hsl
  have h4 : ∀ k, k < 7 → cell.slots[g.1.2 ci k]? = some (vp_V ex0 k) := h4
  have hcellT : T.heap[a]? = some cell := by rw [hT]; exact h1
  obtain ⟨V, ce, L, Z, hL, hVh, hcC, hcV, hsz, st⟩ := vx_ctorX X9 hx htr (cls := X) hown hat hf hkX hcellT h2 h3 (hm cell h1).1 (hm cell h1).2
    (fun k hk x hx9 => by
      obtain ⟨cf, kf, fi, fd, hfi, hfd⟩ := hsl k (by omega)
      have h5 := h4 k (by omega)
      rw [hT0 k hk] at hfi
      match k, hk with
      | 0, _ => cases hfi.symm.trans hx9; rw [← hfd] at h5; exact h5
      | 1, _ => cases hfi.symm.trans hx9; rw [← hfd] at h5; exact h5
      | 2, _ => cases hfi.symm.trans hx9; rw [← hfd] at h5; exact h5
      | 3, _ => cases hfi.symm.trans hx9; rw [← hfd] at h5; exact h5
      | 4, _ => cases hfi.symm.trans hx9; rw [← hfd] at h5; exact h5)
    (g := F0 m pc ls (.ref a :: rest)) rfl (hls.trans hml.symm) (rest := rest) rfl (by rw [hb]; exact hdg) hRf (by show 2 * 0 + _ + _ ≤ _; omega)
  have hlt : a < V.heap.size := by rw [hVh]; exact (Array.getElem?_eq_some_iff.mp hcellT).1
  have hself : (V.setCell a ce).heap[a]? = some ce := heapAt_setCell_self (s := V) ce hlt
  have hoth : ∀ q, q ≠ a → (V.setCell a ce).heap[q]? = s.heap[q]? := fun q hq => by rw [heapAt_setCell_ne (s := V) ce (Ne.symm hq), hVh, hT]
  have hAa : A a := hw.2.1.2 0 _ rfl
  have hvs : ∀ k, k < 7 → ce.slots[g.1.2 ci k]? = some (vp_V ((List.range 7).map fun k => (ce.slots[g.1.2 ci k]?).getD .null) k) := by
    intro k hk
    have h5 := h4 k hk
    have hlt5 : g.1.2 ci k < ce.slots.size := by rw [hsz]; exact (Array.getElem?_eq_some_iff.mp h5).1
    have e5 : ce.slots[g.1.2 ci k]? = some ce.slots[g.1.2 ci k] := Array.getElem?_eq_getElem hlt5
    unfold vp_V
    rw [List.getD_eq_getElem?_getD, List.getElem?_map, List.getElem?_range hk]
    simp [e5]
  obtain ⟨t, a1, b1⟩ := kk ((List.range 7).map fun k => (ce.slots[g.1.2 ci k]?).getD .null) (V.setCell a ce).heap ([] ++ L) (by simp)
    ⟨fun k x hx9 => by
      have hz : k < 1 := (List.getElem?_eq_some_iff.mp hx9).1
      rw [show k = 0 by omega] at hx9
      cases hx9
      exact ⟨_, hc, ce, hself, hcC, hcV, hvs⟩,
    ⟨fun i j x y hx9 hy9 _ => by
      have h9 : i < 1 := (List.getElem?_eq_some_iff.mp hx9).1
      have h8 : j < 1 := (List.getElem?_eq_some_iff.mp hy9).1
      omega, fun k x hx9 => by
      have hz : k < 1 := (List.getElem?_eq_some_iff.mp hx9).1
      rw [show k = 0 by omega] at hx9
      cases hx9; exact hAa⟩,
    ⟨by
      have : (V.setCell a ce).heap.size = s.heap.size := by show (V.heap.setIfInBounds a ce).size = _; rw [Array.size_setIfInBounds, hVh, hT]
      omega, fun q _ hq => hoth q (fun e9 => hq (e9 ▸ hAa)), fun y hy => by rw [hL y (by simpa using hy)]; exact hAa⟩⟩ _ rfl Z
  exact ⟨t, st _ a1, b1⟩
end ROWX
