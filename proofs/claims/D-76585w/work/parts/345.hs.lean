/-! THE HILL, pure, 4: who is dry, and how many -/
set_option maxRecDepth 100000
def bsN (c : Nat → Bool) (n : Nat) : Nat := itr (fun p a => a ||| (if c p = true then 2 ^ p else 0)) n 0
def ctI (c : Nat → Bool) (n : Nat) : Int32 := itr (fun p k => k + (if c p = true then 1 else 0)) n 0
theorem bsN_t (c : Nat → Bool) (n p : Nat) : (bsN c n).testBit p = (decide (p < n) && c p) := by
  induction n with
  | zero => simp [bsN, itr]
  | succ n ih =>
    show ((bsN c n) ||| (if c n = true then 2 ^ n else 0)).testBit p = _
    rw [Nat.testBit_or, ih]
    by_cases e : p = n
    · subst e
      cases hc : c p with
      | true => rw [if_pos rfl, Nat.testBit_two_pow_self]; simp
      | false => rw [if_neg (by decide)]; simp
    · have h2 : (if c n = true then 2 ^ n else 0).testBit p = false := by
        split
        · exact Nat.testBit_two_pow_of_ne (Ne.symm e)
        · exact Nat.zero_testBit p
      rw [h2, Bool.or_false]
      congr 1
      exact decide_eq_decide.mpr (by omega)
theorem bsN_lt (c : Nat → Bool) (n : Nat) : bsN c n < 2 ^ n := by
  refine Nat.lt_pow_two_of_testBit _ (fun i hi => ?_)
  rw [bsN_t, show decide (i < n) = false from decide_eq_false (by omega), Bool.false_and]
theorem bsN_64 (c : Nat → Bool) {n : Nat} (h : n ≤ 6) : bsN c n < 64 := Nat.lt_of_lt_of_le (bsN_lt c n) (Nat.pow_le_pow_right (n := 2) (by decide) h)
theorem bits_1 : ∀ n, n < 6 → ∀ A, A < 2 ^ n → bitsF (nI (A ||| 2 ^ n)) = bitsF (nI A) + 1 := by decide +kernel
theorem bits_ct (c : Nat → Bool) : ∀ n, n ≤ 6 → bitsF (nI (bsN c n)) = ctI c n := by
  intro n
  induction n with
  | zero => intro _; show bitsF (nI 0) = 0; decide
  | succ n ih =>
    intro hn
    show bitsF (nI (bsN c n ||| (if c n = true then 2 ^ n else 0))) = ctI c n + (if c n = true then 1 else 0)
    by_cases h : c n = true
    · rw [if_pos h, if_pos h, bits_1 n (by omega) _ (bsN_lt c n), ih (by omega)]
    · rw [if_neg h, if_neg h, Nat.or_zero, ih (by omega), Int32.add_zero]
def dyB (r : Nat → Int32) (p : Nat) : Bool := decide (r (5 + 7 * p + 3) = 0)
/-- how many are dry -/
def dmF (r : Nat → Int32) : Int32 := ctI (dyB r) (nN r)
theorem or_0 (x : Int32) : x ||| 0 = x := Int32.or_zero
theorem dryF_N {r : Nat → Int32} (hN : nN r ≤ 6) : dryF r = nI (bsN (dyB r) (nN r)) := by
  have key : ∀ n, n ≤ nN r → itr (fun p a => a ||| dryB (r (5 + 7 * p + 3)) p) n 0 = nI (bsN (dyB r) n) := by
    intro n
    induction n with
    | zero => intro _; rfl
    | succ n ih =>
      intro hn
      show itr (fun p a => a ||| dryB (r (5 + 7 * p + 3)) p) n 0 ||| dryB (r (5 + 7 * n + 3)) n = nI (bsN (dyB r) n ||| (if dyB r n = true then 2 ^ n else 0))
      rw [ih (by omega)]
      unfold dryB
      by_cases h : r (5 + 7 * n + 3) = 0
      · rw [if_pos h, if_pos (show dyB r n = true from decide_eq_true h)]
        exact or_nI _ (bsN_64 _ (by omega)) n (by omega)
      · rw [if_neg h, if_neg (show ¬ dyB r n = true from fun h2 => h (of_decide_eq_true h2)), Nat.or_zero, or_0]
  exact key (nN r) (Nat.le_refl _)
theorem dry_bits {r : Nat → Int32} (hN : nN r ≤ 6) : bitsF (dryF r) = dmF r := by rw [dryF_N hN]; exact bits_ct _ _ hN
theorem and_m1 : ∀ A, A < 64 → (nI A &&& (-1 : Int32) = 0 ↔ A = 0) := by decide +kernel
theorem and_bit : ∀ A, A < 64 → ∀ p, p < 6 → (nI A &&& ((1 : Int32) <<< (nI p &&& 31)) = 0 ↔ A.testBit p = false) := by decide +kernel
theorem ctI_0 {c : Nat → Bool} : ∀ n, n ≤ 6 → (ctI c n = 0 ↔ ∀ p, p < n → c p = false) := by
  have key : ∀ n, n ≤ 6 → ∃ k : Nat, k ≤ n ∧ ctI c n = nI k ∧ (k = 0 ↔ ∀ p, p < n → c p = false) := by
    intro n
    induction n with
    | zero => intro _; exact ⟨0, Nat.le_refl _, rfl, by simp⟩
    | succ n ih =>
      intro hn
      obtain ⟨k, hk, e, hi⟩ := ih (by omega)
      cases hc : c n with
      | true =>
        refine ⟨k + 1, by omega, ?_, ?_⟩
        · show ctI c n + (if c n = true then 1 else 0) = _
          rw [e, hc, if_pos rfl]; exact nI_1 k
        · constructor
          · intro h; omega
          · intro h; have := h n (by omega); rw [hc] at this; cases this
      | false =>
        refine ⟨k, by omega, ?_, ?_⟩
        · show ctI c n + (if c n = true then 1 else 0) = _
          rw [e, hc, if_neg (by decide), Int32.add_zero]
        · constructor
          · intro h p hp
            by_cases e2 : p = n
            · subst e2; exact hc
            · exact hi.mp h p (by omega)
          · intro h; exact hi.mpr (fun p hp => h p (by omega))
  intro n hn
  obtain ⟨k, hk, e, hi⟩ := key n hn
  rw [e, ← hi]
  exact nI_eq (a := k) (b := 0) (by omega) (by decide)
theorem dm_0 {r : Nat → Int32} (hN : nN r ≤ 6) : decide (dmF r = 0) = decide (dryF r &&& (-1 : Int32) = 0) := by
  refine decide_eq_decide.mpr ?_
  rw [dryF_N hN, and_m1 _ (bsN_64 _ hN)]
  unfold dmF
  rw [ctI_0 _ hN]
  constructor
  · intro h
    refine Nat.eq_of_testBit_eq (fun i => ?_)
    rw [bsN_t, Nat.zero_testBit]
    by_cases hi : i < nN r
    · rw [h i hi, Bool.and_false]
    · rw [decide_eq_false hi, Bool.false_and]
  · intro h p hp
    have := bsN_t (dyB r) (nN r) p
    rw [h, Nat.zero_testBit, decide_eq_true hp, Bool.true_and] at this
    exact this.symm
theorem dm_p {r : Nat → Int32} (h : InvX r) {p : Nat} (hp : p < nN r) : decide (0 < r (5 + 7 * p + 3)) = decide (dryF r &&& ((1 : Int32) <<< (nI p &&& 31)) = 0) := by
  have hN := h.1.1
  refine decide_eq_decide.mpr ?_
  rw [dryF_N hN, and_bit _ (bsN_64 _ hN) p (by omega), bsN_t, decide_eq_true hp, Bool.true_and]
  obtain ⟨k, hk, e⟩ := h.cell hp 3 (by decide)
  have hk9 : k ≤ 99 := hk
  unfold dyB
  rw [e]
  constructor
  · intro h0
    have := (nI_ltI (a := 0) (b := k) (by decide) (by omega)).mp h0
    exact decide_eq_false (fun h2 => by have := (nI_eq (a := k) (b := 0) (by omega) (by decide)).mp h2; omega)
  · intro h0
    refine (nI_ltI (a := 0) (b := k) (by decide) (by omega)).mpr ?_
    rcases Nat.eq_zero_or_pos k with q | q
    · subst q; exact absurd rfl (of_decide_eq_false h0)
    · exact q
def lsX (r : Nat → Int32) : Int32 := itr (fun p v => minI v (r (5 + 7 * p + 3))) (nN r) 99
/-- with people, the least of what they have does not hang on where it starts -/
theorem lsX_eq {r : Nat → Int32} (h : InvX r) (hp : 0 < nN r) : lsX r = lstF r := by
  have key : ∀ n, n ≤ nN r → 0 < n → itr (fun p v => minI v (r (5 + 7 * p + 3))) n 99 = itr (fun p v => leI v (r (5 + 7 * p + 3))) n 1000000000 := by
    intro n
    induction n with
    | zero => intro _ h0; omega
    | succ n ih =>
      intro hn _
      show minI _ _ = leI _ _
      by_cases e : n = 0
      · subst e
        obtain ⟨k, hk, e2⟩ := h.cell (show 0 < nN r by omega) 3 (by decide)
        have hk9 : k ≤ 99 := hk
        show minI 99 _ = leI 1000000000 _
        rw [minI_leI, e2, show (99 : Int32) = nI 99 from rfl, show (1000000000 : Int32) = nI 1000000000 from rfl, leI_nI (by decide) (by omega), leI_nI (by decide) (by omega)]
        congr 1; omega
      · rw [ih (by omega) (by omega), minI_leI]
  exact key _ (Nat.le_refl _) hp
theorem nd_f {r : Nat → Int32} {s : Int32} {m M : Nat} (h : ndB r s m = false) (hm : m ≤ M) : ndB r s M = false := by
  induction M with
  | zero => rw [← h, show m = 0 by omega]
  | succ M ih =>
    by_cases e : m = M + 1
    · rw [← e]; exact h
    · show (ndB r s M && _) = false
      rw [ih (by omega), Bool.false_and]
