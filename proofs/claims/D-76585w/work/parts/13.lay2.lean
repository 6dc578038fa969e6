/-! the layer, second part: answers with something unsaid; the reference's world -/
set_option maxRecDepth 100000
abbrev rtE {α : Type} (v0 : Option Value) (w0 : α → va_W) : Option Value → va_W → Prop := fun v w' => ∃ x : α, v = v0 ∧ w' = w0 x
section
variable {p : Program} {l : Launch} {e : Env} {R : Room} {s : State} {m : MethodId} {args : Array Value} {below : List Frame} {meth : Method} {c : Code} {H : Heap} {locs : List Loc} {cells slots : Nat} {Q : State → Prop}
variable {cc : ByteArray} {pc nL : Nat} {y0 : MethodName} {ret0 : Option FieldType} {g : GG} {A : Nat → Prop} {ls : Array Slot} {rest : List Value} {ws : va_W} {a : Nat} {wc : va_W} {st0 : List Value} {mc ms : Nat}
/-- a call whose answer is known but for something in the world behind it -/
theorem r_detE {α : Type} {v0 : Option Value} {w0 : α → va_W} {ws' : α → va_W} {av : Array Value} (hr : vx_Run p l e R s m args below meth c H locs cells slots mc ms (F0 m pc ls st0) rest (PostA g (va_A wc H.size) (rtE v0 w0) av) (PxA g (va_A wc H.size) (pxR noX)) (va_A wc H.size)) (cx : Cx p s m args meth c cc nL y0 ret0 g A) (hw : WS g A s.heap ws H locs) (isC : List Nat) (hC : isC.map (fun i => ws[i]?) = wc.map some) (hn : va_nd isC = true) (ha : ∀ x, ((w0 x).take wc.length).map Prod.fst = wc.map Prod.fst) (hws : ∀ x, wput ws isC ((w0 x).take wc.length) ++ (w0 x).drop wc.length = ws' x)
    (kk : ∀ (x : α) (H1 : Heap) (locs1 : List Loc), WS g A s.heap (ws' x) H1 locs1 → W p l e R s m args below meth c H1 locs1 (cells + mc) (slots + ms) Q (F0 m (pc + 3) ls (v0.toList ++ rest))) : W p l e R s m args below meth c H locs cells slots Q (F0 m pc ls st0) := by
  refine r_run hr cx.2.2.2.2.2.2.2.2.2.1 hw isC hC hn ?_ (fun _ _ _ h => h.elim) (fun _ _ _ _ _ _ _ _ h => h.elim) ?_
  · rintro v w1 ⟨x, rfl, rfl⟩
    exact ha x
  · rintro v w1 H1 locs1 ⟨x, rfl, rfl⟩ hw1
    exact kk x H1 locs1 (hws x ▸ hw1)
end
/-- the reference's world -/
def WM (g : GG) (a : Nat → Nat) (s m im wa L R rf nu : Nat → Int32) (hi lm rn pl sd : Int32) : va_W :=
  [(a 0, .inr (8, [.ref (a 1), .ref (a 2), .ref (a 3), .ref (a 4), .int hi, .ref (a 5), .ref (a 6), .ref (a 7), .int lm, .int rn, .int pl, .ref (a 8), .int sd])), (a 1, .inl (g.2 0, 47, .inl s)), (a 2, .inl (g.2 0, 47, .inl m)), (a 3, .inl (g.2 0, 47, .inl im)), (a 4, .inl (g.2 0, 47, .inl wa)), (a 5, .inl (g.2 0, 96, .inl L)), (a 6, .inl (g.2 0, 16, .inl R)), (a 7, .inl (g.2 0, 7, .inl rf)), (a 8, .inl (g.2 0, 3, .inl nu))]
/-! more pure words -/
def okC (c : Int32) : Prop := c = -1 ∨ c = -2 ∨ c = -3 ∨ c = -4 ∨ c = -6
def cN (c : Int32) : Nat := (-c).toNatClampNeg
theorem okC.lt {c : Int32} (h : okC c) : cN c < 7 := by rcases h with h | h | h | h | h <;> subst h <;> decide
theorem okC.eq {c : Int32} (h : okC c) : -c = nI (cN c) := by rcases h with h | h | h | h | h <;> subst h <;> decide
theorem okC.ne {c : Int32} (h : okC c) : ¬ c = 0 := by rcases h with h | h | h | h | h <;> subst h <;> decide
/-- a refusal is counted -/
def rfU (rf : Nat → Int32) (c : Int32) : Nat → Int32 := upd rf (cN c) (rf (cN c) + 1)
def psB (s : Nat → Int32) (p : Int32) : Bool := isInB p 0 (s 0 - 1)
def wrF (v lo hi : Int32) : Int32 := if v < lo then -4 else if hi < v then -6 else 0
theorem wrF_ok {v lo hi : Int32} (h : ¬ wrF v lo hi = 0) : okC (wrF v lo hi) := by
  unfold wrF at h ⊢
  by_cases c1 : v < lo
  · rw [if_pos c1]; exact Or.inr (Or.inr (Or.inr (Or.inl rfl)))
  · rw [if_neg c1] at h ⊢
    by_cases c2 : hi < v
    · rw [if_pos c2]; exact Or.inr (Or.inr (Or.inr (Or.inr rfl)))
    · rw [if_neg c2] at h; exact absurd rfl h
theorem wrF_0 {v lo hi : Int32} (h : wrF v lo hi = 0) : lo ≤ v ∧ v ≤ hi := by
  unfold wrF at h
  by_cases c1 : v < lo
  · rw [if_pos c1] at h; exact absurd h (by decide)
  · rw [if_neg c1] at h
    by_cases c2 : hi < v
    · rw [if_pos c2] at h; exact absurd h (by decide)
    · exact ⟨Int32.not_lt.mp c1, Int32.not_lt.mp c2⟩
/-- an int within 0 .. M, by its number -/
theorem nI_rng {x : Int32} {M : Nat} (hM : M < 2 ^ 31) (h0 : 0 ≤ x) (h1 : x ≤ nI M) : ∃ k : Nat, k ≤ M ∧ x = nI k := by
  obtain ⟨k, hk, rfl⟩ := nI_of (Int32.not_lt.mpr h0)
  exact ⟨k, (nI_leI hk hM).mp h1, rfl⟩
theorem psB_rng {s : Nat → Int32} {p : Int32} (hI : InvM s) (h : psB s p = true) : ∃ k : Nat, k < nN s ∧ p = nI k := by
  obtain ⟨hN, h0, -⟩ := hI
  simp only [psB, isInB, Bool.and_eq_true, decide_eq_true_eq] at h
  obtain ⟨k, hk, rfl⟩ := nI_of (Int32.not_lt.mpr h.1)
  refine ⟨k, ?_, rfl⟩
  have h2 := h.2
  rw [h0] at h2
  have e : (nI (nN s) - 1).toInt = (nN s : Int) - 1 := by
    have : ∀ q, q ≤ 6 → (nI q - 1).toInt = (q : Int) - 1 := by decide
    exact this _ hN
  rw [Int32.le_iff_toInt_le, e, nI_toInt hk] at h2
  omega
/-- the number of an int that is one -/
def tN (x : Int32) : Nat := x.toNatClampNeg
theorem tN_nI {k : Nat} (h : k < 2 ^ 31) : tN (nI k) = k := nI_clamp h
/-- the first of N places from j on where c holds, or none -/
def ffV (c : Nat → Bool) : Nat → Nat → Int32
  | 0, _ => -9
  | k + 1, j => if c j = true then nI j else ffV c k (j + 1)
theorem ffV_t {c : Nat → Bool} {N j : Nat} (h : j < N) (hc : c j = true) : ffV c (N - j) j = nI j := by
  rw [show N - j = (N - (j + 1)) + 1 by omega, ffV, if_pos hc]
theorem ffV_f {c : Nat → Bool} {N j : Nat} (h : j < N) (hc : c j = false) : ffV c (N - j) j = ffV c (N - (j + 1)) (j + 1) := by
  rw [show N - j = (N - (j + 1)) + 1 by omega, ffV, if_neg (by rw [hc]; decide)]
theorem ffV_e {c : Nat → Bool} {N j : Nat} (h : N ≤ j) : ffV c (N - j) j = -9 := by
  rw [show N - j = 0 by omega, ffV]
/-- c holds at all places below N -/
def alB (c : Nat → Bool) : Nat → Bool
  | 0 => true
  | k + 1 => alB c k && c k
theorem alB_f {c : Nat → Bool} {N j : Nat} (h : j < N) (hc : c j = false) : alB c N = false := by
  induction N with
  | zero => omega
  | succ N ih =>
    by_cases e : j = N
    · subst e; rw [alB, hc, Bool.and_false]
    · rw [alB, ih (by omega), Bool.false_and]
theorem alB_iff {c : Nat → Bool} {N : Nat} : alB c N = true ↔ ∀ j, j < N → c j = true := by
  induction N with
  | zero => simp [alB]
  | succ N ih =>
    rw [alB, Bool.and_eq_true, ih]
    constructor
    · intro h j hj
      by_cases e : j = N
      · subst e; exact h.2
      · exact h.1 j (by omega)
    · intro h
      exact ⟨fun j hj => h j (by omega), h N (by omega)⟩
/-- nobody of some is dry behind any of the hours below N -/
def ndB (r : Nat → Int32) (some : Int32) (N : Nat) : Bool := alB (fun k => decide (dryF (hoursF r k) &&& some = 0)) N
