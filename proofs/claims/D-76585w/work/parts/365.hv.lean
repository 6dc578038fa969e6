/-! two hills; one who comes -/
set_option maxRecDepth 100000
/-- a hill's six cells alone -/
def HGs (g : GG) (b : Nat → Nat) (pe sp dr we co ho hu fo : Int32) (kf : Nat → Option Nat) (fg cn fl fr : Nat → Int32) : va_W :=
  [(b 0, .inr (1, [.int pe, .ref (b 1), .ref (b 2), .ref (b 3), .ref (b 4), .ref (b 5), .int sp, .int dr, .int we, .int co, .int ho, .int hu, .int fo])), (b 1, .inl (g.2 3, 6, .inr (.inr (.inr (.inr kf))))), (b 2, .inl (g.2 0, 6, .inl fg)), (b 3, .inl (g.2 0, 6, .inl cn)), (b 4, .inl (g.2 0, 6, .inl fl)), (b 5, .inl (g.2 0, 6, .inl fr))]
def HXs (g : GG) (b q : Nat → Nat) (r : Nat → Int32) (z : Int32) : va_W := HGs g b (r 0) (flgF r 4) (flgF r 5) (r 2) (r 3) (r 1) (r 4) z (kdc q r) (colv r 1) (colv r 2) (colv r 3) (colv r 6)
theorem HXs_0 {g : GG} {b q : Nat → Nat} {r : Nat → Int32} (h4 : r 4 = 0) : HGs g b (r 0) (flgF r 4) (flgF r 5) (r 2) (r 3) (r 1) 0 0 (kdc q r) (colv r 1) (colv r 2) (colv r 3) (colv r 6) = HXs g b q r 0 := by
  unfold HXs; rw [h4]
theorem H2_adr {g : GG} {b c q : Nat → Nat} {r r' s s' : Nat → Int32} {z z' y y' : Int32} : ((HXs g b q r z ++ HX g c q s y).take (HXs g b q r' z' ++ HX g c q s' y').length).map Prod.fst = (HXs g b q r' z' ++ HX g c q s' y').map Prod.fst := rfl
/-! one who comes -/
theorem nN_addF {s : Nat → Int32} (h : InvM s) (h6 : nN s < 6) (n0 n1 n2 : Int32) : nN (addF s n0 n1 n2) = nN s + 1 := by
  have e0 : addF s n0 n1 n2 0 = nI (nN s + 1) := by unfold addF; rw [upd_s, h.2.1]; exact nI_1 _
  unfold nN at e0 ⊢
  rw [e0]; exact nI_clamp (by unfold nN at h6; omega)
/-- a place of a row to which one has come -/
theorem addF_n {s : Nat → Int32} (n0 n1 n2 : Int32) {j : Nat} (h0 : j ≠ 0) (h : ∀ w, w < 7 → j ≠ 5 + 7 * nN s + w) : addF s n0 n1 n2 j = s j := by
  unfold addF
  rw [upd_n h0, upd_n (h 6 (by decide)), upd_n (h 5 (by decide)), upd_n (h 4 (by decide)), upd_n (h 3 (by decide)), upd_n (h 2 (by decide)), upd_n (h 1 (by decide)), upd_n (show j ≠ 5 + 7 * nN s from h 0 (by decide))]
theorem addF_0 (s : Nat → Int32) (n0 n1 n2 : Int32) : addF s n0 n1 n2 (5 + 7 * nN s) = n0 := by
  unfold addF
  rw [upd_n (by omega), upd_n (by omega), upd_n (by omega), upd_n (by omega), upd_n (by omega), upd_n (by omega), upd_n (by omega), upd_s]
theorem addF_1 (s : Nat → Int32) (n0 n1 n2 : Int32) : addF s n0 n1 n2 (5 + 7 * nN s + 1) = n1 := by
  unfold addF
  rw [upd_n (by omega), upd_n (by omega), upd_n (by omega), upd_n (by omega), upd_n (by omega), upd_n (by omega), upd_s]
theorem addF_2 (s : Nat → Int32) (n0 n1 n2 : Int32) : addF s n0 n1 n2 (5 + 7 * nN s + 2) = n2 := by
  unfold addF
  rw [upd_n (by omega), upd_n (by omega), upd_n (by omega), upd_n (by omega), upd_n (by omega), upd_s]
theorem addF_3 (s : Nat → Int32) (n0 n1 n2 : Int32) : addF s n0 n1 n2 (5 + 7 * nN s + 3) = 5 := by
  unfold addF
  rw [upd_n (by omega), upd_n (by omega), upd_n (by omega), upd_n (by omega), upd_s]
theorem addF_4 (s : Nat → Int32) (n0 n1 n2 : Int32) : addF s n0 n1 n2 (5 + 7 * nN s + 4) = 0 := by
  unfold addF
  rw [upd_n (by omega), upd_n (by omega), upd_n (by omega), upd_s]
theorem addF_5 (s : Nat → Int32) (n0 n1 n2 : Int32) : addF s n0 n1 n2 (5 + 7 * nN s + 5) = 0 := by
  unfold addF
  rw [upd_n (by omega), upd_n (by omega), upd_s]
theorem addF_6 (s : Nat → Int32) (n0 n1 n2 : Int32) : addF s n0 n1 n2 (5 + 7 * nN s + 6) = nI (nN s) := by
  unfold addF
  rw [upd_n (by omega), upd_s]
theorem addF_X {s : Nat → Int32} (h : InvX s) (h6 : nN s < 6) {n0 n1 n2 : Int32} (h0 : okw 0 n0) (h1 : okw 1 n1) (h2 : okw 2 n2) : InvX (addF s n0 n1 n2) := by
  have h6' : ¬ s 0 = 6 := by
    rw [h.1.2.1]
    exact fun e => by have := (nI_eq (a := nN s) (b := 6) (by omega) (by decide)).mp e; omega
  refine ⟨addF_I h.1 h6' _ _ _, fun p hp w hw => ?_, ?_, ?_⟩
  · rw [nN_addF h.1 h6] at hp
    by_cases e : p = nN s
    · subst e
      match w, hw with
      | 0, _ => exact (addF_0 s n0 n1 n2).symm ▸ h0
      | 1, _ => rw [addF_1]; exact h1
      | 2, _ => rw [addF_2]; exact h2
      | 3, _ => rw [addF_3]; exact ⟨5, by decide, rfl⟩
      | 4, _ => rw [addF_4]; exact ⟨0, by decide, rfl⟩
      | 5, _ => rw [addF_5]; exact ⟨0, by decide, rfl⟩
    · rw [addF_n _ _ _ (by omega) (fun u hu => by omega)]
      exact h.2.1 p (by omega) w hw
  · rw [addF_n _ _ _ (by omega) (fun u hu => by omega)]; exact h.2.2.1
  · rw [addF_n _ _ _ (by omega) (fun u hu => by omega)]; exact h.2.2.2
theorem and_not : ∀ n, n < 6 → ∀ A, A < 2 ^ n → nI A &&& ((1 : Int32) <<< (nI n &&& 31) ^^^ (-1 : Int32)) = nI A := by decide +kernel
theorem flgF_addF {s : Nat → Int32} (h : InvX s) (h6 : nN s < 6) {n0 n1 n2 : Int32} (h0 : okw 0 n0) (h1 : okw 1 n1) (h2 : okw 2 n2) {w : Nat} (hw : w = 4 ∨ w = 5) : flgF (addF s n0 n1 n2) w = flgF s w &&& ((1 : Int32) <<< (s 0 &&& 31) ^^^ (-1 : Int32)) := by
  have hA := addF_X h h6 h0 h1 h2
  rw [flgF_N h hw, flgF_N hA hw, nN_addF h.1 h6, h.1.2.1, and_not _ h6 _ (fbN_lt s w _)]
  congr 1
  refine Nat.eq_of_testBit_eq (fun i => ?_)
  rw [fbN_t, fbN_t]
  by_cases e : i = nN s
  · have e2 : addF s n0 n1 n2 (5 + 7 * nN s + w) = 0 := by rcases hw with e | e <;> subst e; exact addF_4 _ _ _ _; exact addF_5 _ _ _ _
    subst e
    rw [e2]; simp
  · rw [addF_n _ _ _ (by omega) (fun u hu => by omega)]
    congr 1
    exact decide_eq_decide.mpr (by omega)
theorem come_eq {g : GG} {b q : Nat → Nat} {s : Nat → Int32} {z n1 n2 : Int32} {k : Nat} (h : InvX s) (h6 : nN s < 6) (hk : k < 6) (h1 : okw 1 n1) (h2 : okw 2 n2) :
    HG g b q (s 0 + 1) (flgF s 4 &&& ((1 : Int32) <<< (s 0 &&& 31) ^^^ (-1 : Int32))) (flgF s 5 &&& ((1 : Int32) <<< (s 0 &&& 31) ^^^ (-1 : Int32))) (s 2) (s 3) (s 1) (s 4) z (fun y => if y = nN s then some (q k) else kdc q s y) (upd (colv s 1) (nN s) n1) (upd (colv s 2) (nN s) n2) (upd (colv s 3) (nN s) 5) (upd (colv s 6) (nN s) (nI (nN s))) = HX g b q (addF s (nI k) n1 n2) z := by
  have h0 : okw 0 (nI k) := ⟨k, by show k ≤ 5; omega, rfl⟩
  have hc : ∀ w v, w < 7 → addF s (nI k) n1 n2 (5 + 7 * nN s + w) = v → colv (addF s (nI k) n1 n2) w = upd (colv s w) (nN s) v := by
    intro w v hw e
    funext y
    by_cases e2 : y = nN s
    · subst e2; rw [upd_s]; exact e
    · rw [upd_n e2]; exact addF_n _ _ _ (by omega) (fun u hu => by omega)
  refine HX_cg ?_ (flgF_addF h h6 h0 h1 h2 (Or.inl rfl)) (flgF_addF h h6 h0 h1 h2 (Or.inr rfl)) (addF_n _ _ _ (by omega) (fun u hu => by omega)) (addF_n _ _ _ (by omega) (fun u hu => by omega)) (addF_n _ _ _ (by omega) (fun u hu => by omega)) (addF_n _ _ _ (by omega) (fun u hu => by omega)) rfl ?_ (hc 1 _ (by decide) (addF_1 _ _ _ _)) (hc 2 _ (by decide) (addF_2 _ _ _ _)) (hc 3 _ (by decide) (addF_3 _ _ _ _)) (hc 6 _ (by decide) (addF_6 _ _ _ _))
  · unfold addF; rw [upd_s]
  · funext y
    unfold kdc
    rw [nN_addF h.1 h6]
    by_cases e : y = nN s
    · subst e
      rw [if_pos (by omega), if_pos rfl]
      unfold kN
      rw [addF_0, nI_clamp (by omega)]
    · rw [if_neg e]
      by_cases c : y < nN s
      · rw [if_pos (by omega), if_pos c]
        unfold kN
        rw [addF_n _ _ _ (by omega) (fun u hu => by omega)]
      · rw [if_neg (by omega), if_neg c]
