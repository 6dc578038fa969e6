/-! THE HILL, pure, 2: what its methods make of a row -/
set_option maxRecDepth 100000
theorem HX_adr {g : GG} {b q : Nat → Nat} {r r' : Nat → Int32} {z z' : Int32} : ((HX g b q r z).take (HX g b q r' z').length).map Prod.fst = (HX g b q r' z').map Prod.fst := rfl
theorem kdc_p {q : Nat → Nat} {r : Nat → Int32} {p : Nat} (h : p < nN r) : kdc q r p = some (q (kN r p)) := if_pos h
theorem flg_t {r : Nat → Int32} (h : InvX r) {w : Nat} (hw : w = 4 ∨ w = 5) {p : Nat} (hp : p < nN r) (c : hsB (flgF r w) (nI p) = true) : r (5 + 7 * p + w) = 1 := by
  rw [flg_has h hw hp] at c; exact of_decide_eq_true c
theorem flg_f {r : Nat → Int32} (h : InvX r) {w : Nat} (hw : w = 4 ∨ w = 5) {p : Nat} (hp : p < nN r) (c : hsB (flgF r w) (nI p) = false) : r (5 + 7 * p + w) = 0 := by
  rw [flg_has h hw hp] at c
  rcases flg_01 h hw hp with e | e
  · exact e
  · exact absurd e (of_decide_eq_false c)
theorem k5 {r : Nat → Int32} (h : InvX r) {p : Nat} (hp : p < nN r) : decide (r (5 + 7 * p) = 5) = decide (kN r p = 5) := by
  obtain ⟨h1, h2⟩ := h.kind hp
  rw [h2]
  exact decide_eq_decide.mpr (nI_eq (b := 5) (by omega) (by decide))
def givX (r : Nat → Int32) (p : Nat) (m : Int32) : Nat → Int32 := if givN r p (frN r p) = true then r else givF r p (frN r p) m
theorem leI_nI {a b : Nat} (ha : a < 2 ^ 31) (hb : b < 2 ^ 31) : leI (nI a) (nI b) = nI (min a b) := by
  unfold leI
  by_cases c : a < b
  · rw [if_pos ((nI_ltI ha hb).mpr c), Nat.min_eq_left (by omega)]
  · rw [if_neg (fun h => c ((nI_ltI ha hb).mp h)), Nat.min_eq_right (by omega)]
/-- the numbers of one who may draw -/
theorem may_n {r : Nat → Int32} (h : InvX r) {p : Nat} (hp : p < nN r) (hm : mayD r p = true) : ∃ c w f : Nat, c ≤ 9 ∧ w ≤ 99 ∧ f < 20 ∧ r (5 + 7 * p + 2) = nI c ∧ r 2 = nI w ∧ r (5 + 7 * p + 3) = nI f ∧ leI (r (5 + 7 * p + 2)) (r 2) = nI (min c w) := by
  obtain ⟨c, hc, e1⟩ := h.cell hp 2 (by decide)
  obtain ⟨w, hw, e2⟩ := h.2.2.1
  obtain ⟨f, hf, e3⟩ := h.cell hp 3 (by decide)
  have hc9 : c ≤ 9 := hc
  have hw9 : w ≤ 99 := hw
  have hf9 : f ≤ 99 := hf
  refine ⟨c, w, f, hc9, hw9, ?_, e1, e2, e3, by rw [e1, e2]; exact leI_nI (by omega) (by omega)⟩
  simp only [mayD, Bool.and_eq_true, decide_eq_true_eq] at hm
  have := hm.1.2
  rw [e3] at this
  exact (nI_ltI (a := f) (b := 20) (by omega) (by decide)).mp this
theorem nN_drwA (r : Nat → Int32) (p : Nat) : nN (drwA r p) = nN r := nN_same (drwA_k r p kpt_0)
theorem nN_drwB (r : Nat → Int32) (p : Nat) : nN (drwB r p) = nN r := nN_same (drwB_k r p kpt_0)
theorem nN_drawF (r : Nat → Int32) (p : Nat) : nN (drawF r p) = nN r := nN_same (drawF_k r p kpt_0)
theorem drwB_I {r : Nat → Int32} (h : InvX r) {p : Nat} (hp : p < nN r) (hm : mayD r p = true) : InvX (drwB r p) := by
  obtain ⟨c, w, f, hc, hw, hf, e1, e2, e3, e4⟩ := may_n h hp hm
  have hA : InvX (drwA r p) := by
    unfold drwA
    rw [e4, e2, pk_sub (Nat.min_le_right _ _)]
    refine InvX_upd (InvX_2 h ⟨w - min c w, by show _ ≤ 99; omega, rfl⟩) (by decide) ?_
    rw [upd_n (by omega), e3, nI_add]
    exact ⟨f + min c w, by show _ ≤ 99; omega, rfl⟩
  unfold drwB
  by_cases c0 : 0 < leI (r (5 + 7 * p + 2)) (r 2)
  · rw [if_pos c0]; exact InvX_upd hA (by decide) ⟨1, by decide, rfl⟩
  · rw [if_neg c0]; exact hA
theorem givF_I {r : Nat → Int32} (h : InvX r) {p o : Nat} {m f y : Nat} (hf : r (5 + 7 * p + 3) = nI f) (hm : m ≤ f) (hf9 : f ≤ 99) (hy : upd r (5 + 7 * p + 3) (nI (f - m)) (5 + 7 * o + 3) = nI y) (hy9 : y ≤ 99) : InvX (givF r p o (nI m)) := by
  unfold givF
  rw [hf, pk_sub hm, hy, nI_add, show (99 : Int32) = nI 99 from rfl, leI_nI (by decide) (by omega)]
  exact InvX_upd (InvX_upd h (by decide) ⟨f - m, by show _ ≤ 99; omega, rfl⟩) (by decide) ⟨min 99 (y + m), by show _ ≤ 99; omega, rfl⟩
theorem half_nI : ∀ d, d ≤ 99 → nI d / 2 = nI (d / 2) := by decide +kernel
theorem frN_drwB (r : Nat → Int32) (p : Nat) : frN (drwB r p) p = frN r p := by unfold frN; rw [drwB_k r p (kpt_fr p)]
theorem drawF_I {r : Nat → Int32} (h : InvX r) {p : Nat} (hp : p < nN r) : InvX (drawF r p) := by
  unfold drawF
  by_cases hm : mayD r p = true
  · rw [if_pos hm]
    have hB := drwB_I h hp hm
    by_cases hg : givN (drwB r p) p (frN r p) = true
    · rw [if_pos hg]; exact hB
    · rw [if_neg hg]
      obtain ⟨c, w, f, hc, hw, hf, e1, e2, e3, e4⟩ := may_n h hp hm
      have efu : drwB r p (5 + 7 * p + 3) = nI (f + min c w) := by
        have eA : drwA r p (5 + 7 * p + 3) = nI (f + min c w) := by
          unfold drwA; rw [upd_s, upd_n (by omega), e3, e4, nI_add]
        unfold drwB
        by_cases c0 : 0 < leI (r (5 + 7 * p + 2)) (r 2)
        · rw [if_pos c0, upd_n (by omega), eA]
        · rw [if_neg c0, eA]
      rw [e4, half_nI _ (by omega)]
      -- the friend is one of the people
      have hfr : frN r p < nN (drwB r p) := by
        rw [nN_drwB]
        rcases Nat.lt_or_ge (frN r p) (nN r) with q | q
        · exact q
        · exfalso
          apply hg
          have : drwB r p 0 ≤ nI (frN r p) := by
            rw [drwB_k r p kpt_0, h.1.2.1]
            exact (nI_leI (by have := h.1.1; omega) (by have := (h.1.2.2 p hp).1; omega)).mpr q
          simp [givN, this]
      have hy : ∃ y : Nat, y ≤ 99 ∧ upd (drwB r p) (5 + 7 * p + 3) (nI (f + min c w - min c w / 2)) (5 + 7 * frN r p + 3) = nI y := by
        by_cases e : frN r p = p
        · rw [e, upd_s]; exact ⟨_, by omega, rfl⟩
        · rw [upd_n (by omega)]
          obtain ⟨y, hy, e9⟩ := hB.cell hfr 3 (by decide)
          exact ⟨y, hy, e9⟩
      obtain ⟨y, hy9, hy⟩ := hy
      exact givF_I hB efu (by omega) (by omega) hy hy9
  · rw [if_neg hm]; exact h
theorem drawF_give {r : Nat → Int32} {p : Nat} (hm : mayD r p = true) : drawF r p = givX (drwB r p) p (leI (r (5 + 7 * p + 2)) (r 2) / 2) := by
  unfold drawF givX
  rw [if_pos hm, frN_drwB]
theorem drawF_no {r : Nat → Int32} {p : Nat} (hm : mayD r p = false) : drawF r p = r := by
  unfold drawF; rw [if_neg (by rw [hm]; decide)]
/-- nothing to draw: nothing is changed -/
theorem drawF_le {r : Nat → Int32} (h : InvX r) {p : Nat} (hp : p < nN r) (hm : mayD r p = true) (hd : leI (r (5 + 7 * p + 2)) (r 2) ≤ 0) : drawF r p = r := by
  obtain ⟨c, w, f, hc, hw, hf, e1, e2, e3, e4⟩ := may_n h hp hm
  have hd0 : leI (r (5 + 7 * p + 2)) (r 2) = 0 := by
    rw [e4] at hd ⊢
    have := (nI_leI (a := min c w) (b := 0) (by omega) (by decide)).mp hd
    rw [show min c w = 0 by omega]; rfl
  have hA : drwA r p = r := by
    unfold drwA
    have x0 : r 2 - 0 = r 2 := Int32.sub_zero _
    rw [hd0, x0, upd_same, Int32.add_zero, upd_same]
  have hB : drwB r p = r := by
    unfold drwB
    rw [hd0, if_neg (by decide), hA]
  rw [drawF_give hm, hB, hd0]
  unfold givX
  by_cases hg : givN r p (frN r p) = true
  · rw [if_pos hg]
  · rw [if_neg hg]
    have hfr : frN r p < nN r := by
      rcases Nat.lt_or_ge (frN r p) (nN r) with q | q
      · exact q
      · exfalso
        apply hg
        have : r 0 ≤ nI (frN r p) := by
          rw [h.1.2.1]
          exact (nI_leI (by have := h.1.1; omega) (by have := (h.1.2.2 p hp).1; omega)).mpr q
        simp [givN, this]
    obtain ⟨y, hy, e9⟩ := h.cell hfr 3 (by decide)
    have hy9 : y ≤ 99 := hy
    unfold givF
    rw [show (0 : Int32) / 2 = 0 from rfl, Int32.sub_zero, upd_same, Int32.add_zero, e9, show (99 : Int32) = nI 99 from rfl, leI_nI (by decide) (by omega), show min 99 y = y by omega, ← e9, upd_same]
