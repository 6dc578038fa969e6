/-! THE HILL, pure: its cells as a function of the row; the full invariant; flags as bits -/
set_option maxRecDepth 100000
/-- a hill's six cells, its kinds behind them -/
def HG (g : GG) (b q : Nat → Nat) (pe sp dr we co ho hu fo : Int32) (kf : Nat → Option Nat) (fg cn fl fr : Nat → Int32) : va_W :=
  (b 0, .inr (1, [.int pe, .ref (b 1), .ref (b 2), .ref (b 3), .ref (b 4), .ref (b 5), .int sp, .int dr, .int we, .int co, .int ho, .int hu, .int fo])) :: (b 1, .inl (g.2 3, 6, .inr (.inr (.inr (.inr kf))))) :: (b 2, .inl (g.2 0, 6, .inl fg)) :: (b 3, .inl (g.2 0, 6, .inl cn)) :: (b 4, .inl (g.2 0, 6, .inl fl)) :: (b 5, .inl (g.2 0, 6, .inl fr)) :: KW q
def colv (r : Nat → Int32) (w : Nat) : Nat → Int32 := fun k => r (5 + 7 * k + w)
def kN (r : Nat → Int32) (p : Nat) : Nat := (r (5 + 7 * p)).toNatClampNeg
def kdc (q : Nat → Nat) (r : Nat → Int32) : Nat → Option Nat := fun k => if k < nN r then some (q (kN r k)) else none
def HX (g : GG) (b q : Nat → Nat) (r : Nat → Int32) (z : Int32) : va_W := HG g b q (r 0) (flgF r 4) (flgF r 5) (r 2) (r 3) (r 1) (r 4) z (kdc q r) (colv r 1) (colv r 2) (colv r 3) (colv r 6)
theorem HG_adr {g : GG} {b q : Nat → Nat} {pe sp dr we co ho hu fo pe' sp' dr' we' co' ho' hu' fo' : Int32} {kf kf' : Nat → Option Nat} {fg cn fl fr fg' cn' fl' fr' : Nat → Int32} : ((HG g b q pe sp dr we co ho hu fo kf fg cn fl fr).take (HG g b q pe' sp' dr' we' co' ho' hu' fo' kf' fg' cn' fl' fr').length).map Prod.fst = (HG g b q pe' sp' dr' we' co' ho' hu' fo' kf' fg' cn' fl' fr').map Prod.fst := rfl
/-! ranges -/
def lim : Nat → Nat := fun w => if w = 0 then 5 else if w = 1 then 9 else if w = 2 then 9 else if w = 3 then 99 else if w = 4 then 1 else if w = 5 then 1 else if w = 6 then 99 else 30
def okw (w : Nat) (x : Int32) : Prop := ∃ k : Nat, k ≤ lim w ∧ x = nI k
def InvX (r : Nat → Int32) : Prop := InvM r ∧ (∀ p, p < nN r → ∀ w, w < 6 → okw w (r (5 + 7 * p + w))) ∧ okw 6 (r 2) ∧ okw 7 (r 3)
theorem InvX.cell {r : Nat → Int32} (h : InvX r) {p : Nat} (hp : p < nN r) (w : Nat) (hw : w < 6) : okw w (r (5 + 7 * p + w)) := h.2.1 p hp w hw
theorem nN_upd {r : Nat → Int32} {j : Nat} {v : Int32} (h : j ≠ 0) : nN (upd r j v) = nN r := nN_same (upd_n (Ne.symm h))
theorem InvX_upd {r : Nat → Int32} (h : InvX r) {p w : Nat} {v : Int32} (hw : w < 6) (hv : okw w v) : InvX (upd r (5 + 7 * p + w) v) := by
  refine ⟨InvM_upd h.1 (by omega) (fun j => by omega), fun q hq u hu => ?_, by rw [upd_n (by omega)]; exact h.2.2.1, by rw [upd_n (by omega)]; exact h.2.2.2⟩
  rw [nN_upd (by omega)] at hq
  by_cases e : 5 + 7 * q + u = 5 + 7 * p + w
  · rw [e, upd_s, show u = w by omega]; exact hv
  · rw [upd_n e]; exact h.2.1 q hq u hu
theorem InvX_friend {r : Nat → Int32} (h : InvX r) {k f : Nat} (hf : f < 6) : InvX (upd r (5 + 7 * k + 6) (nI f)) := by
  refine ⟨InvM_updF h.1 hf, fun q hq u hu => ?_, by rw [upd_n (by omega)]; exact h.2.2.1, by rw [upd_n (by omega)]; exact h.2.2.2⟩
  rw [nN_upd (by omega)] at hq
  rw [upd_n (by omega)]; exact h.2.1 q hq u hu
theorem InvX_1 {r : Nat → Int32} (h : InvX r) {v : Int32} : InvX (upd r 1 v) := by
  refine ⟨InvM_upd h.1 (by omega) (fun j => by omega), fun q hq u hu => ?_, by rw [upd_n (by omega)]; exact h.2.2.1, by rw [upd_n (by omega)]; exact h.2.2.2⟩
  rw [nN_upd (by omega)] at hq
  rw [upd_n (by omega)]; exact h.2.1 q hq u hu
theorem InvX_2 {r : Nat → Int32} (h : InvX r) {v : Int32} (hv : okw 6 v) : InvX (upd r 2 v) := by
  refine ⟨InvM_upd h.1 (by omega) (fun j => by omega), fun q hq u hu => ?_, by rw [upd_s]; exact hv, by rw [upd_n (by omega)]; exact h.2.2.2⟩
  rw [nN_upd (by omega)] at hq
  rw [upd_n (by omega)]; exact h.2.1 q hq u hu
theorem InvX_3 {r : Nat → Int32} (h : InvX r) {v : Int32} (hv : okw 7 v) : InvX (upd r 3 v) := by
  refine ⟨InvM_upd h.1 (by omega) (fun j => by omega), fun q hq u hu => ?_, by rw [upd_n (by omega)]; exact h.2.2.1, by rw [upd_s]; exact hv⟩
  rw [nN_upd (by omega)] at hq
  rw [upd_n (by omega)]; exact h.2.1 q hq u hu
theorem InvX_4 {r : Nat → Int32} (h : InvX r) {v : Int32} : InvX (upd r 4 v) := by
  refine ⟨InvM_upd h.1 (by omega) (fun j => by omega), fun q hq u hu => ?_, by rw [upd_n (by omega)]; exact h.2.2.1, by rw [upd_n (by omega)]; exact h.2.2.2⟩
  rw [nN_upd (by omega)] at hq
  rw [upd_n (by omega)]; exact h.2.1 q hq u hu
theorem InvX.kind {r : Nat → Int32} (h : InvX r) {p : Nat} (hp : p < nN r) : kN r p < 6 ∧ r (5 + 7 * p) = nI (kN r p) := by
  obtain ⟨k, hk, e⟩ := h.cell hp 0 (by decide)
  have e' : r (5 + 7 * p) = nI k := e
  have hk5 : k ≤ 5 := hk
  have : kN r p = k := by unfold kN; rw [e', nI_clamp (by omega)]
  rw [this]; exact ⟨by omega, e'⟩
/-! flags as bits -/
def fbN (r : Nat → Int32) (w n : Nat) : Nat := itr (fun p a => a ||| (if r (5 + 7 * p + w) = 1 then 2 ^ p else 0)) n 0
theorem fbN_t (r : Nat → Int32) (w n p : Nat) : (fbN r w n).testBit p = (decide (p < n) && decide (r (5 + 7 * p + w) = 1)) := by
  induction n with
  | zero => simp [fbN, itr]
  | succ n ih =>
    show ((fbN r w n) ||| (if r (5 + 7 * n + w) = 1 then 2 ^ n else 0)).testBit p = _
    rw [Nat.testBit_or, ih]
    by_cases e : p = n
    · subst e
      by_cases c : r (5 + 7 * p + w) = 1
      · rw [if_pos c, Nat.testBit_two_pow_self]; simp [c]
      · rw [if_neg c]; simp [c]
    · have h2 : (if r (5 + 7 * n + w) = 1 then 2 ^ n else 0).testBit p = false := by
        split
        · exact Nat.testBit_two_pow_of_ne (Ne.symm e)
        · exact Nat.zero_testBit p
      rw [h2, Bool.or_false]
      congr 1
      exact decide_eq_decide.mpr (by omega)
theorem fbN_lt (r : Nat → Int32) (w n : Nat) : fbN r w n < 2 ^ n := by
  refine Nat.lt_pow_two_of_testBit _ (fun i hi => ?_)
  rw [fbN_t, show decide (i < n) = false from decide_eq_false (by omega), Bool.false_and]
theorem or_nI : ∀ A, A < 64 → ∀ p, p < 6 → nI A ||| ((1 : Int32) <<< (nI p &&& 31)) = nI (A ||| 2 ^ p) := by decide +kernel
theorem or_n0 : ∀ A, A < 64 → ∀ p, p < 6 → nI A ||| ((0 : Int32) <<< (nI p &&& 31)) = nI A := by decide +kernel
theorem hs_nI : ∀ A, A < 64 → ∀ p, p < 6 → hsB (nI A) (nI p) = A.testBit p := by decide +kernel
theorem flgF_N {r : Nat → Int32} (h : InvX r) {w : Nat} (hw : w = 4 ∨ w = 5) : flgF r w = nI (fbN r w (nN r)) := by
  have hN := h.1.1
  have key : ∀ n, n ≤ nN r → itr (fun p a => a ||| (r (5 + 7 * p + w) <<< (nI p &&& 31))) n 0 = nI (fbN r w n) := by
    intro n
    induction n with
    | zero => intro _; rfl
    | succ n ih =>
      intro hn
      have e0 := ih (by omega)
      have hlt : fbN r w n < 64 := Nat.lt_of_lt_of_le (fbN_lt r w n) (Nat.pow_le_pow_right (n := 2) (by decide) (show n ≤ 6 by omega))
      show itr (fun p a => a ||| (r (5 + 7 * p + w) <<< (nI p &&& 31))) n 0 ||| (r (5 + 7 * n + w) <<< (nI n &&& 31)) = nI (fbN r w n ||| (if r (5 + 7 * n + w) = 1 then 2 ^ n else 0))
      rw [e0]
      obtain ⟨k, hk, e⟩ := h.cell (show n < nN r by omega) w (by omega)
      have hk1 : k ≤ 1 := by rcases hw with e | e <;> subst e <;> exact hk
      rcases (show k = 0 ∨ k = 1 by omega) with e2 | e2 <;> subst e2
      · rw [e, if_neg (by decide), Nat.or_zero]
        exact or_n0 _ hlt n (by omega)
      · rw [e, if_pos (show nI 1 = 1 from rfl)]
        exact or_nI _ hlt n (by omega)
  exact key (nN r) (Nat.le_refl _)
theorem fb64 {r : Nat → Int32} (h : InvX r) (w : Nat) : fbN r w (nN r) < 64 := Nat.lt_of_lt_of_le (fbN_lt r w _) (Nat.pow_le_pow_right (n := 2) (by decide) h.1.1)
/-- a flag is asked for by its bit -/
theorem flg_has {r : Nat → Int32} (h : InvX r) {w : Nat} (hw : w = 4 ∨ w = 5) {p : Nat} (hp : p < nN r) : hsB (flgF r w) (nI p) = decide (r (5 + 7 * p + w) = 1) := by
  have hN := h.1.1
  rw [flgF_N h hw, hs_nI _ (fb64 h w) p (by omega), fbN_t, decide_eq_true hp, Bool.true_and]
theorem flg_01 {r : Nat → Int32} (h : InvX r) {w : Nat} (hw : w = 4 ∨ w = 5) {p : Nat} (hp : p < nN r) : r (5 + 7 * p + w) = 0 ∨ r (5 + 7 * p + w) = 1 := by
  obtain ⟨k, hk, e⟩ := h.cell hp w (by omega)
  have hk1 : k ≤ 1 := by rcases hw with e | e <;> subst e <;> exact hk
  rcases (show k = 0 ∨ k = 1 by omega) with e2 | e2 <;> subst e2
  · exact Or.inl e
  · exact Or.inr e
/-- setting a flag is setting its bit -/
theorem flg_set {r : Nat → Int32} (h : InvX r) {w : Nat} (hw : w = 4 ∨ w = 5) {p : Nat} (hp : p < nN r) : flgF (upd r (5 + 7 * p + w) 1) w = flgF r w ||| ((1 : Int32) <<< (nI p &&& 31)) := by
  have hN := h.1.1
  have h' : InvX (upd r (5 + 7 * p + w) 1) := InvX_upd h (by omega) (by rcases hw with e | e <;> subst e <;> exact ⟨1, by decide, rfl⟩)
  rw [flgF_N h hw, flgF_N h' hw, nN_upd (by omega), or_nI _ (fb64 h w) p (by omega)]
  congr 1
  refine Nat.eq_of_testBit_eq (fun i => ?_)
  rw [Nat.testBit_or, fbN_t, fbN_t]
  by_cases e : i = p
  · subst e; rw [upd_s, Nat.testBit_two_pow_self]; simp [hp]
  · rw [upd_n (by omega), Nat.testBit_two_pow_of_ne (Ne.symm e), Bool.or_false]
theorem flgF_cg {r r' : Nat → Int32} {w : Nat} (e0 : nN r' = nN r) (e : ∀ p, p < nN r → r' (5 + 7 * p + w) = r (5 + 7 * p + w)) : flgF r' w = flgF r w := by
  have key : ∀ n, n ≤ nN r → itr (fun p a => a ||| (r' (5 + 7 * p + w) <<< (nI p &&& 31))) n 0 = itr (fun p a => a ||| (r (5 + 7 * p + w) <<< (nI p &&& 31))) n 0 := by
    intro n
    induction n with
    | zero => intro _; rfl
    | succ n ih =>
      intro hn
      show _ ||| _ = _ ||| _
      rw [ih (by omega), e n (by omega)]
  unfold flgF
  rw [e0]
  exact key (nN r) (Nat.le_refl _)
theorem flgF_upd_n {r : Nat → Int32} {w j : Nat} {v : Int32} (h0 : j ≠ 0) (h : ∀ p, 5 + 7 * p + w ≠ j) : flgF (upd r j v) w = flgF r w := flgF_cg (nN_upd h0) (fun p _ => upd_n (h p))
theorem colv_upd_n {r : Nat → Int32} {w j : Nat} {v : Int32} (h : ∀ p, 5 + 7 * p + w ≠ j) : colv (upd r j v) w = colv r w := funext fun k => upd_n (h k)
theorem colv_upd_s {r : Nat → Int32} {w p : Nat} {v : Int32} : colv (upd r (5 + 7 * p + w) v) w = upd (colv r w) p v := by
  funext k
  by_cases e : k = p
  · subst e; rw [upd_s]; exact upd_s _ _ _
  · rw [upd_n e]; exact upd_n (by omega)
theorem kdc_upd_n {q : Nat → Nat} {r : Nat → Int32} {j : Nat} {v : Int32} (h0 : j ≠ 0) (h : ∀ p, 5 + 7 * p ≠ j) : kdc q (upd r j v) = kdc q r := by
  funext k
  unfold kdc kN
  rw [nN_upd h0, upd_n (h k)]
theorem HX_cg {g : GG} {b q : Nat → Nat} {r : Nat → Int32} {pe sp dr we co ho hu fo z : Int32} {kf : Nat → Option Nat} {fg cn fl fr : Nat → Int32} (e1 : r 0 = pe) (e2 : flgF r 4 = sp) (e3 : flgF r 5 = dr) (e4 : r 2 = we) (e5 : r 3 = co) (e6 : r 1 = ho) (e7 : r 4 = hu) (e8 : z = fo) (e9 : kdc q r = kf) (e10 : colv r 1 = fg) (e11 : colv r 2 = cn) (e12 : colv r 3 = fl) (e13 : colv r 6 = fr) : HG g b q pe sp dr we co ho hu fo kf fg cn fl fr = HX g b q r z := by
  subst e1 e2 e3 e4 e5 e6 e7 e8 e9 e10 e11 e12 e13; rfl
theorem upd_same (r : Nat → Int32) (j : Nat) : upd r j (r j) = r := by
  funext k
  by_cases e : k = j
  · subst e; exact upd_s _ _ _
  · exact upd_n e
