/-! THE LETTERS, pure: statements by their places -/
set_option maxRecDepth 100000
/-- an answer that is known, with something unsaid behind it of which C is said -/
abbrev rtP {α : Type} (C : α → Prop) (v0 : Option Value) (w0 : α → va_W) : Option Value → va_W → Prop := fun v w' => ∃ x : α, C x ∧ v = v0 ∧ w' = w0 x
section
variable {p : Program} {l : Launch} {e : Env} {R : Room} {s : State} {m : MethodId} {args : Array Value} {below : List Frame} {meth : Method} {c : Code} {H : Heap} {locs : List Loc} {cells slots : Nat} {Q : State → Prop}
variable {cc : ByteArray} {pc nL : Nat} {y0 : MethodName} {ret0 : Option FieldType} {g : GG} {A : Nat → Prop} {ls : Array Slot} {rest : List Value} {ws : va_W} {a : Nat} {wc : va_W} {st0 : List Value} {mc ms : Nat}
theorem r_detP {α : Type} {C : α → Prop} {v0 : Option Value} {w0 : α → va_W} {ws' : α → va_W} {av : Array Value} (hr : vx_Run p l e R s m args below meth c H locs cells slots mc ms (F0 m pc ls st0) rest (PostA g (va_A wc H.size) (rtP C v0 w0) av) (PxA g (va_A wc H.size) (pxR noX)) (va_A wc H.size)) (cx : Cx p s m args meth c cc nL y0 ret0 g A) (hw : WS g A s.heap ws H locs) (isC : List Nat) (hC : isC.map (fun i => ws[i]?) = wc.map some) (hn : va_nd isC = true) (ha : ∀ x, ((w0 x).take wc.length).map Prod.fst = wc.map Prod.fst) (hws : ∀ x, wput ws isC ((w0 x).take wc.length) ++ (w0 x).drop wc.length = ws' x)
    (kk : ∀ (x : α) (H1 : Heap) (locs1 : List Loc), C x → WS g A s.heap (ws' x) H1 locs1 → W p l e R s m args below meth c H1 locs1 (cells + mc) (slots + ms) Q (F0 m (pc + 3) ls (v0.toList ++ rest))) : W p l e R s m args below meth c H locs cells slots Q (F0 m pc ls st0) := by
  refine r_run hr cx.2.2.2.2.2.2.2.2.2.1 hw isC hC hn ?_ (fun _ _ _ h => h.elim) (fun _ _ _ _ _ _ _ _ h => h.elim) ?_
  · rintro v w1 ⟨x, hx, rfl, rfl⟩
    exact ha x
  · rintro v w1 H1 locs1 ⟨x, hx, rfl, rfl⟩ hw1
    exact kk x H1 locs1 hx (hws x ▸ hw1)
end
def hrF (L : Nat → Int32) (M at' : Nat) : Int32 := if at' < M then L at' else -1
def kdF (c : Int32) : Int32 := if c = 112 then 0 else if c = 119 then 1 else if c = 115 then 2 else if c = 109 then 3 else if c = 116 then 4 else if c = 108 then 5 else -9
def dgB (L : Nat → Int32) (M k : Nat) : Bool := isInB (hrF L M k) 48 57
def seB (L : Nat → Int32) (M k : Nat) : Bool := decide (hrF L M k = 59)
/-- how many of d places from j on hold c -/
def ldC (c : Nat → Bool) : Nat → Nat → Nat
  | 0, j => j
  | d + 1, j => if c j = true then ldC c d (j + 1) else j
theorem ldC_t {c : Nat → Bool} {N j : Nat} (h : j < N) (hc : c j = true) : ldC c (N - j) j = ldC c (N - (j + 1)) (j + 1) := by
  rw [show N - j = (N - (j + 1)) + 1 by omega, ldC, if_pos hc]
theorem ldC_f {c : Nat → Bool} {N j : Nat} (h : j < N) (hc : c j = false) : ldC c (N - j) j = j := by
  rw [show N - j = (N - (j + 1)) + 1 by omega, ldC, if_neg (by rw [hc]; decide)]
theorem ldC_e {c : Nat → Bool} {N j : Nat} (h : N ≤ j) : ldC c (N - j) j = j := by
  rw [show N - j = 0 by omega, ldC]
/-- the number of the digits from k on, read so far -/
def dgV (L : Nat → Int32) (M k : Nat) : Nat → Int32
  | 0 => 0
  | j + 1 => (10 * dgV L M k j + hrF L M (k + j)) - 48
def d1 (L : Nat → Int32) (M k : Nat) : Int32 := hrF L M k - 48
def d2 (L : Nat → Int32) (M k : Nat) : Int32 := 10 * d1 L M k + d1 L M (k + 1)
theorem dgV_1 (L : Nat → Int32) (M k : Nat) : dgV L M k 1 = d1 L M k := by
  simp only [dgV, d1, Nat.add_zero]; grind
theorem dgV_2 (L : Nat → Int32) (M k : Nat) : dgV L M k 2 = d2 L M k := by
  simp only [dgV, d1, d2, Nat.add_zero]; grind
/-- whether a statement stands at k, where the reading of it ends -/
def stB (L : Nat → Int32) (M k : Nat) : Bool :=
  if hrF L M k = 112 then decide (0 ≤ kdF (hrF L M (k + 1))) && dgB L M (k + 2) && dgB L M (k + 3) && seB L M (k + 4)
  else if hrF L M k = 102 then dgB L M (k + 1) && dgB L M (k + 2) && seB L M (k + 3)
  else if hrF L M k = 103 then dgB L M (k + 1) && dgB L M (k + 2) && dgB L M (k + 3) && seB L M (k + 4)
  else if hrF L M k = 119 ∨ hrF L M k = 108 ∨ hrF L M k = 104 then dgB L M (k + 1) && dgB L M (k + 2) && seB L M (k + 3)
  else if hrF L M k = 115 then dgB L M (k + 1) && seB L M (k + 2)
  else false
def en1 (L : Nat → Int32) (M k : Nat) : Nat := if seB L M k = true then k + 1 else k
def stP (L : Nat → Int32) (M k : Nat) : Nat :=
  if hrF L M k = 112 then (if 0 ≤ kdF (hrF L M (k + 1)) then (if dgB L M (k + 2) = true then (if dgB L M (k + 3) = true then en1 L M (k + 4) else k + 3) else k + 2) else k + 1)
  else if hrF L M k = 102 then (if dgB L M (k + 1) = true then (if dgB L M (k + 2) = true then en1 L M (k + 3) else k + 2) else k + 1)
  else if hrF L M k = 103 then (if dgB L M (k + 1) = true then (if dgB L M (k + 2) = true then (if dgB L M (k + 3) = true then en1 L M (k + 4) else k + 3) else k + 2) else k + 1)
  else if hrF L M k = 119 ∨ hrF L M k = 108 ∨ hrF L M k = 104 then (if dgB L M (k + 1) = true then (if dgB L M (k + 2) = true then en1 L M (k + 3) else k + 2) else k + 1)
  else if hrF L M k = 115 then (if dgB L M (k + 1) = true then en1 L M (k + 2) else k + 1)
  else k
/-- the numbers of a statement that stands -/
def n0F (L : Nat → Int32) (M k : Nat) : Int32 :=
  if hrF L M k = 112 then kdF (hrF L M (k + 1)) else if hrF L M k = 119 ∨ hrF L M k = 108 ∨ hrF L M k = 104 then d2 L M (k + 1) else d1 L M (k + 1)
def n1F (L : Nat → Int32) (M k : Nat) : Int32 := if hrF L M k = 103 then d2 L M (k + 2) else d1 L M (k + 2)
def n2F (L : Nat → Int32) (M k : Nat) : Int32 := d1 L M (k + 3)
def nuOK (L : Nat → Int32) (M k : Nat) (nu : Nat → Int32) : Prop := nu 0 = n0F L M k ∧ ((hrF L M k = 112 ∨ hrF L M k = 102 ∨ hrF L M k = 103) → nu 1 = n1F L M k) ∧ (hrF L M k = 112 → nu 2 = n2F L M k)
/-- a statement done -/
def addF (s : Nat → Int32) (n0 n1 n2 : Int32) : Nat → Int32 :=
  upd (upd (upd (upd (upd (upd (upd (upd s (5 + 7 * nN s) n0) (5 + 7 * nN s + 1) n1) (5 + 7 * nN s + 2) n2) (5 + 7 * nN s + 3) 5) (5 + 7 * nN s + 4) 0) (5 + 7 * nN s + 5) 0) (5 + 7 * nN s + 6) (nI (nN s))) 0 (s 0 + 1)
def doB (s : Nat → Int32) (c n0 n1 : Int32) : Bool :=
  if c = 112 then !decide (s 0 = 6) else if c = 102 then psB s n0 && decide (n1 < 6) else if c = 103 then psB s n0 else if c = 119 then true else if c = 108 then decide (n0 ≤ 30) else if c = 115 then psB s n0 else isInB n0 1 60 && decide (s 1 + n0 ≤ 999)
def doS (s : Nat → Int32) (c n0 n1 n2 : Int32) : Nat → Int32 :=
  if c = 112 then addF s n0 n1 n2 else if c = 102 then upd s (5 + 7 * tN n0 + 6) n1 else if c = 103 then upd s (5 + 7 * tN n0 + 3) n1 else if c = 119 then upd s 2 n0 else if c = 108 then upd s 3 n0 else if c = 115 then upd s (5 + 7 * tN n0 + 4) 1 else hoursF s (tN n0)
theorem addF_I {s : Nat → Int32} (h : InvM s) (h6 : ¬ s 0 = 6) (n0 n1 n2 : Int32) : InvM (addF s n0 n1 n2) := by
  obtain ⟨hN, h0, hf⟩ := h
  have hlt : nN s < 6 := by
    rcases Nat.lt_or_ge (nN s) 6 with q | q
    · exact q
    · exact absurd (by rw [h0, show nN s = 6 by omega]; rfl) h6
  have e0 : addF s n0 n1 n2 0 = nI (nN s + 1) := by unfold addF; rw [upd_s, h0]; exact nI_1 _
  have eN : nN (addF s n0 n1 n2) = nN s + 1 := by unfold nN at e0 ⊢; rw [e0]; exact nI_clamp (by unfold nN at hlt; omega)
  have ef : ∀ j, j < nN s → addF s n0 n1 n2 (5 + 7 * j + 6) = s (5 + 7 * j + 6) := fun j hj => by
    unfold addF
    rw [upd_n (by omega), upd_n (by omega), upd_n (by omega), upd_n (by omega), upd_n (by omega), upd_n (by omega), upd_n (by omega), upd_n (by omega)]
  have el : addF s n0 n1 n2 (5 + 7 * nN s + 6) = nI (nN s) := by unfold addF; rw [upd_n (by omega), upd_s]
  refine ⟨by omega, by rw [eN, e0], fun j hj => ?_⟩
  rw [eN] at hj
  by_cases e : j = nN s
  · subst e
    have e1 : frN (addF s n0 n1 n2) (nN s) = nN s := by unfold frN; rw [el]; exact nI_clamp (by omega)
    rw [e1, el]; exact ⟨hlt, rfl⟩
  · have h1 : frN (addF s n0 n1 n2) j = frN s j := by unfold frN; rw [ef j (by omega)]
    rw [h1, ef j (by omega)]; exact hf j (by omega)
theorem doS_I {s : Nat → Int32} (h : InvM s) {c n0 n1 n2 : Int32} (hB : doB s c n0 n1 = true) (hn : c = 102 → 0 ≤ n1) : InvM (doS s c n0 n1 n2) := by
  unfold doB at hB
  unfold doS
  by_cases c1 : c = 112
  · rw [if_pos c1] at hB ⊢
    exact addF_I h (by simpa using hB) _ _ _
  rw [if_neg c1] at hB ⊢
  by_cases c2 : c = 102
  · rw [if_pos c2] at hB ⊢
    simp only [Bool.and_eq_true, decide_eq_true_eq] at hB
    obtain ⟨k, hk, rfl⟩ := psB_rng h hB.1
    obtain ⟨f, hf, rfl⟩ := nI_of (Int32.not_lt.mpr (hn c2))
    have h6 : f < 6 := (nI_ltI (b := 6) hf (by decide)).mp hB.2
    have hN := h.1
    rw [tN_nI (by omega)]
    exact InvM_updF h h6
  rw [if_neg c2] at hB ⊢
  by_cases c3 : c = 103
  · rw [if_pos c3]; exact InvM_upd h (by omega) (fun j => by omega)
  rw [if_neg c3] at hB ⊢
  by_cases c4 : c = 119
  · rw [if_pos c4]; exact InvM_upd h (by omega) (fun j => by omega)
  rw [if_neg c4] at hB ⊢
  by_cases c5 : c = 108
  · rw [if_pos c5]; exact InvM_upd h (by omega) (fun j => by omega)
  rw [if_neg c5] at hB ⊢
  by_cases c6 : c = 115
  · rw [if_pos c6]; exact InvM_upd h (by omega) (fun j => by omega)
  rw [if_neg c6]
  exact h.hours _
/-- the first reading: the fault (-9: none), and how many stand -/
def scR (L : Nat → Int32) (M : Nat) : Nat → Nat → Nat → Int32 × Nat
  | 0, _, n => (-9, n)
  | f + 1, k, n => if stB L M k = true then (if stP L M k < M then scR L M f (stP L M k) (n + 1) else (-9, n + 1)) else (-1000 - nI (stP L M k), n + 1)
/-- the second: what they make of the row, or the fault -/
def exR (L : Nat → Int32) (M : Nat) : Nat → Nat → (Nat → Int32) → Int32 × (Nat → Int32)
  | 0, _, s => (-9, s)
  | f + 1, k, s => if k < M then (if doB s (hrF L M k) (n0F L M k) (n1F L M k) = true then exR L M f (stP L M k) (doS s (hrF L M k) (n0F L M k) (n1F L M k) (n2F L M k)) else (-2000 - nI k, s)) else (-9, s)
def hlF (L : Nat → Int32) (M : Nat) (s : Nat → Int32) : Int32 × (Nat → Int32) :=
  if (scR L M (M + 1) 0 0).1 = -9 then (if (exR L M (M + 1) 0 s).1 = -9 then (nI (scR L M (M + 1) 0 0).2, (exR L M (M + 1) 0 s).2) else ((exR L M (M + 1) 0 s).1, s)) else ((scR L M (M + 1) 0 0).1, s)
theorem stP_gt {L : Nat → Int32} {M k : Nat} (h : stB L M k = true) : k + 2 < stP L M k := by
  unfold stB at h
  unfold stP
  by_cases c1 : hrF L M k = 112
  · rw [if_pos c1] at h ⊢
    simp only [Bool.and_eq_true, decide_eq_true_eq] at h
    rw [if_pos h.1.1.1, if_pos h.1.1.2, if_pos h.1.2, en1, if_pos h.2]; omega
  rw [if_neg c1] at h ⊢
  by_cases c2 : hrF L M k = 102
  · rw [if_pos c2] at h ⊢
    simp only [Bool.and_eq_true] at h
    rw [if_pos h.1.1, if_pos h.1.2, en1, if_pos h.2]; omega
  rw [if_neg c2] at h ⊢
  by_cases c3 : hrF L M k = 103
  · rw [if_pos c3] at h ⊢
    simp only [Bool.and_eq_true] at h
    rw [if_pos h.1.1.1, if_pos h.1.1.2, if_pos h.1.2, en1, if_pos h.2]; omega
  rw [if_neg c3] at h ⊢
  by_cases c4 : hrF L M k = 119 ∨ hrF L M k = 108 ∨ hrF L M k = 104
  · rw [if_pos c4] at h ⊢
    simp only [Bool.and_eq_true] at h
    rw [if_pos h.1.1, if_pos h.1.2, en1, if_pos h.2]; omega
  rw [if_neg c4] at h ⊢
  by_cases c5 : hrF L M k = 115
  · rw [if_pos c5] at h ⊢
    simp only [Bool.and_eq_true] at h
    rw [if_pos h.1, en1, if_pos h.2]; omega
  rw [if_neg c5] at h
  cases h
/-- digits are numbers from 0 to 9 -/
theorem d1_rng {L : Nat → Int32} {M k : Nat} (h : dgB L M k = true) : ∃ q : Nat, q ≤ 9 ∧ d1 L M k = nI q := by
  simp only [dgB, isInB, Bool.and_eq_true, decide_eq_true_eq] at h
  obtain ⟨q, hq, e⟩ := nI_rng (M := 57) (by decide) (Int32.le_trans (by decide) h.1) h.2
  have h48 : 48 ≤ q := (nI_leI (a := 48) (b := q) (by decide) (by omega)).mp (by rw [← e]; exact h.1)
  refine ⟨q - 48, by omega, ?_⟩
  rw [d1, e]
  exact pk_sub (b := 48) h48
theorem d2_rng {L : Nat → Int32} {M k : Nat} (h : dgB L M k = true) (h2 : dgB L M (k + 1) = true) : ∃ q : Nat, q ≤ 99 ∧ d2 L M k = nI q := by
  obtain ⟨a, ha, e1⟩ := d1_rng h
  obtain ⟨b, hb, e2⟩ := d1_rng h2
  refine ⟨10 * a + b, by omega, ?_⟩
  rw [d2, e1, e2, show (10 : Int32) = nI 10 from rfl, pk_mul, nI_add]
