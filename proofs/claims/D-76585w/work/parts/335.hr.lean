/-! THE HILL, pure, 3: the hours -/
set_option maxRecDepth 100000
theorem drwA_I {r : Nat → Int32} (h : InvX r) {p : Nat} (hp : p < nN r) (hm : mayD r p = true) : InvX (drwA r p) := by
  obtain ⟨c, w, f, hc, hw, hf, e1, e2, e3, e4⟩ := may_n h hp hm
  unfold drwA
  rw [e4, e2, pk_sub (Nat.min_le_right _ _)]
  refine InvX_upd (InvX_2 h ⟨w - min c w, by show _ ≤ 99; omega, rfl⟩) (by decide) ?_
  rw [upd_n (by omega), e3, nI_add]
  exact ⟨f + min c w, by show _ ≤ 99; omega, rfl⟩
theorem kdc_kpt {q : Nat → Nat} {r r' : Nat → Int32} (e : ∀ k, kpt k → r' k = r k) : kdc q r' = kdc q r := by
  funext k
  unfold kdc kN
  rw [nN_same (e 0 kpt_0), e _ (kpt_k k)]
theorem colv_kpt {r r' : Nat → Int32} {w : Nat} (e : ∀ k, kpt k → r' k = r k) (hw : ∀ k, kpt (5 + 7 * k + w)) : colv r' w = colv r w := funext fun k => e _ (hw k)
theorem draw_eq {g : GG} {b q : Nat → Nat} {r : Nat → Int32} {z : Int32} {p : Nat} (h : InvX r) (hp : p < nN r) (hm : mayD r p = true) (c0 : 0 < leI (r (5 + 7 * p + 2)) (r 2)) :
    HG g b q (r 0) (flgF r 4) (flgF r 5 ||| ((1 : Int32) <<< (nI p &&& 31))) (r 2 - leI (r (5 + 7 * p + 2)) (r 2)) (r 3) (r 1) (r 4) z (kdc q r) (colv r 1) (colv r 2) (upd (colv r 3) p (minI 99 (r (5 + 7 * p + 3) + leI (r (5 + 7 * p + 2)) (r 2)))) (colv r 6) = HX g b q (drwB r p) z := by
  obtain ⟨c, w, f, hc, hw, hf, e1, e2, e3, e4⟩ := may_n h hp hm
  have hk : ∀ k, kpt k → drwB r p k = r k := fun k hk => drwB_k r p hk
  have hm9 : minI 99 (r (5 + 7 * p + 3) + leI (r (5 + 7 * p + 2)) (r 2)) = r (5 + 7 * p + 3) + leI (r (5 + 7 * p + 2)) (r 2) := by
    rw [minI_leI, e3, e4, nI_add, show (99 : Int32) = nI 99 from rfl, leI_nI (by decide) (by omega), show min 99 (f + min c w) = f + min c w by omega]
  have hB : drwB r p = upd (drwA r p) (5 + 7 * p + 5) 1 := by unfold drwB; rw [if_pos c0]
  rw [hm9]
  refine HX_cg (hk _ kpt_0) ?_ ?_ ?_ (hk _ kpt_3) ?_ (hk _ kpt_4) rfl (kdc_kpt hk) (colv_kpt hk kpt_f) (colv_kpt hk kpt_c) ?_ (colv_kpt hk kpt_fr)
  · rw [hB, flgF_upd_n (by omega) (fun _ => by omega), drwA, flgF_upd_n (by omega) (fun _ => by omega), flgF_upd_n (by omega) (fun _ => by omega)]
  · rw [hB, flg_set (drwA_I h hp hm) (Or.inr rfl) (by rw [nN_drwA]; exact hp), drwA, flgF_upd_n (by omega) (fun _ => by omega), flgF_upd_n (by omega) (fun _ => by omega)]
  · rw [hB, upd_n (by omega), drwA, upd_n (by omega), upd_s]
  · rw [hB, upd_n (by omega), drwA, upd_n (by omega), upd_n (by omega)]
  · rw [hB, colv_upd_n (fun _ => by omega), drwA, colv_upd_s, colv_upd_n (fun _ => by omega), upd_n (show 5 + 7 * p + 3 ≠ 2 by omega)]
theorem give_eq {g : GG} {b q : Nat → Nat} {r : Nat → Int32} {z m : Int32} {p : Nat} (hg : ¬ givN r p (frN r p) = true) :
    HG g b q (r 0) (flgF r 4) (flgF r 5) (r 2) (r 3) (r 1) (r 4) z (kdc q r) (colv r 1) (colv r 2) (upd (upd (colv r 3) p (r (5 + 7 * p + 3) - m)) (frN r p) (minI 99 (upd (colv r 3) p (r (5 + 7 * p + 3) - m) (frN r p) + m))) (colv r 6) = HX g b q (givX r p m) z := by
  have e : givX r p m = givF r p (frN r p) m := by unfold givX; rw [if_neg hg]
  have hk : ∀ k, kpt k → givF r p (frN r p) m k = r k := fun k hk => givF_k _ _ _ _ hk
  rw [e, minI_leI]
  refine HX_cg (hk _ kpt_0) ?_ ?_ ?_ (hk _ kpt_3) ?_ (hk _ kpt_4) rfl (kdc_kpt hk) (colv_kpt hk kpt_f) (colv_kpt hk kpt_c) ?_ (colv_kpt hk kpt_fr)
  · rw [givF, flgF_upd_n (by omega) (fun _ => by omega), flgF_upd_n (by omega) (fun _ => by omega)]
  · rw [givF, flgF_upd_n (by omega) (fun _ => by omega), flgF_upd_n (by omega) (fun _ => by omega)]
  · rw [givF, upd_n (by omega), upd_n (by omega)]
  · rw [givF, upd_n (by omega), upd_n (by omega)]
  · rw [givF, colv_upd_s, colv_upd_s, ← colv_upd_s (r := r) (w := 3)]; rfl
/-! an hour -/
theorem clrF_w (r : Nat → Int32) (n p : Nat) (w : Nat) (hw : w = 4 ∨ w = 5) (hp : p < n) : clrF r n (5 + 7 * p + w) = 0 := by
  induction n with
  | zero => omega
  | succ n ih =>
    rw [clrF_s]
    by_cases e : p = n
    · subst e
      rcases hw with e | e <;> subst e
      · rw [upd_n (by omega), upd_s]
      · rw [upd_s]
    · rw [upd_n (by omega), upd_n (by omega), ih (by omega)]
theorem clrF_c3 (r : Nat → Int32) (n p : Nat) : clrF r n (5 + 7 * p + 3) = r (5 + 7 * p + 3) := by
  induction n with
  | zero => rfl
  | succ n ih => rw [clrF_s, upd_n (by omega), upd_n (by omega), ih]
theorem clrF_I {r : Nat → Int32} (h : InvX r) (n : Nat) : InvX (clrF r n) := by
  induction n with
  | zero => exact h
  | succ n ih => rw [clrF_s]; exact InvX_upd (InvX_upd ih (by decide) ⟨0, by decide, rfl⟩) (by decide) ⟨0, by decide, rfl⟩
theorem shl_0 : ∀ p, p < 6 → (0 : Int32) <<< (nI p &&& 31) = 0 := by decide
theorem flgF_0 {r : Nat → Int32} {w : Nat} (hN : nN r ≤ 6) (e : ∀ p, p < nN r → r (5 + 7 * p + w) = 0) : flgF r w = 0 := by
  have key : ∀ n, n ≤ nN r → itr (fun p a => a ||| (r (5 + 7 * p + w) <<< (nI p &&& 31))) n 0 = (0 : Int32) := by
    intro n
    induction n with
    | zero => intro _; rfl
    | succ n ih =>
      intro hn
      show _ ||| _ = _
      rw [ih (by omega), e n (by omega), shl_0 n (by omega)]; rfl
  exact key (nN r) (Nat.le_refl _)
theorem okw_well {x y : Int32} (hx : okw 6 x) (hy : okw 7 y) : okw 6 (leI 99 (x + y)) := by
  obtain ⟨a, ha, rfl⟩ := hx
  obtain ⟨c, hc, rfl⟩ := hy
  have ha9 : a ≤ 99 := ha
  have hc9 : c ≤ 30 := hc
  rw [nI_add, show (99 : Int32) = nI 99 from rfl, leI_nI (by decide) (by omega)]
  exact ⟨_, by show _ ≤ 99; omega, rfl⟩
theorem hrA_I {r : Nat → Int32} (h : InvX r) : InvX (hrA r) := by
  unfold hrA
  by_cases c : irem (r 1) 12 = 0
  · rw [if_pos c]
    exact InvX_2 (clrF_I h _) (okw_well (clrF_I h _).2.2.1 (clrF_I h _).2.2.2)
  · rw [if_neg c]; exact h
theorem hrA_eq {g : GG} {b q : Nat → Nat} {r : Nat → Int32} {z : Int32} (h : InvX r) (c : irem (r 1) 12 = 0) :
    HG g b q (r 0) 0 0 (minI 99 (r 2 + r 3)) (r 3) (r 1) (r 4) z (kdc q r) (colv r 1) (colv r 2) (colv r 3) (colv r 6) = HX g b q (hrA r) z := by
  have hN := h.1.1
  have hk : ∀ k, kpt k → hrA r k = r k := fun k hk => hrA_k r hk
  have e : hrA r = upd (clrF r (nN r)) 2 (leI 99 (clrF r (nN r) 2 + clrF r (nN r) 3)) := by unfold hrA; rw [if_pos c]
  have nC : nN (clrF r (nN r)) = nN r := nN_same (clrF_k r _ kpt_0)
  refine HX_cg (hk _ kpt_0) ?_ ?_ ?_ (hk _ kpt_3) ?_ (hk _ kpt_4) rfl (kdc_kpt hk) (colv_kpt hk kpt_f) (colv_kpt hk kpt_c) ?_ (colv_kpt hk kpt_fr)
  · rw [e, flgF_upd_n (by omega) (fun _ => by omega)]
    exact flgF_0 (by rw [nC]; exact hN) (fun p hp => clrF_w r _ p 4 (Or.inl rfl) (by rw [nC] at hp; exact hp))
  · rw [e, flgF_upd_n (by omega) (fun _ => by omega)]
    exact flgF_0 (by rw [nC]; exact hN) (fun p hp => clrF_w r _ p 5 (Or.inr rfl) (by rw [nC] at hp; exact hp))
  · rw [e, upd_s, clrF_2, clrF_k r _ kpt_3, minI_leI]
  · rw [e, upd_n (by omega), clrF_1]
  · rw [e, colv_upd_n (fun _ => by omega)]; exact funext fun k => clrF_c3 r _ k
theorem nN_k {r r' : Nat → Int32} (e : r' 0 = r 0) : nN r' = nN r := nN_same e
theorem spkF_I {r : Nat → Int32} (h : InvX r) (z now : Int32) (n : Nat) : InvX (spkF z now r n) := by
  induction n with
  | zero => exact h
  | succ n ih =>
    rw [spkF_s]
    split
    · exact InvX_upd ih (by decide) ⟨1, by decide, rfl⟩
    · exact ih
theorem nN_spkF (z now : Int32) (r : Nat → Int32) (n : Nat) : nN (spkF z now r n) = nN r := nN_same (spkF_k z now r n kpt_0)
theorem nN_drwF (r : Nat → Int32) (n : Nat) : nN (drwF r n) = nN r := nN_same (drwF_k r n kpt_0)
theorem nN_drkF (r : Nat → Int32) (n : Nat) : nN (drkF r n) = nN r := nN_same (drkF_k r n kpt_0)
theorem nN_hrA (r : Nat → Int32) : nN (hrA r) = nN r := nN_same (hrA_k r kpt_0)
theorem nN_hrB (r : Nat → Int32) (z : Int32) : nN (hrB r z) = nN r := nN_same (hrB_k r z kpt_0)
theorem nN_hrC (r : Nat → Int32) (z : Int32) : nN (hrC r z) = nN r := nN_same (hrC_k r z kpt_0)
theorem nN_hourF (r : Nat → Int32) (z : Int32) : nN (hourF r z) = nN r := nN_same (hourF_k r z kpt_0)
theorem nN_hoursF (r : Nat → Int32) (n : Nat) : nN (hoursF r n) = nN r := nN_same (hoursF_k r n kpt_0)
theorem drwF_I {r : Nat → Int32} (h : InvX r) (n : Nat) (hn : n ≤ nN r) : InvX (drwF r n) := by
  induction n with
  | zero => exact h
  | succ n ih => exact drawF_I (ih (by omega)) (by rw [nN_drwF]; omega)
theorem dkV_nI : ∀ a, a ≤ 99 → ∀ d, d ≤ 4 → dkV (nI a - nI d) = nI (a - d) := by decide +kernel
theorem drB_nI (k : Int32) : ∃ d : Nat, d ≤ 4 ∧ drB k = nI d := by
  unfold drB
  split
  · exact ⟨2, by decide, rfl⟩
  · split
    · exact ⟨4, by decide, rfl⟩
    · split
      · exact ⟨2, by decide, rfl⟩
      · split
        · exact ⟨1, by decide, rfl⟩
        · split
          · exact ⟨4, by decide, rfl⟩
          · exact ⟨3, by decide, rfl⟩
theorem drkF_I {r : Nat → Int32} (h : InvX r) (n : Nat) (hn : n ≤ nN r) : InvX (drkF r n) := by
  induction n with
  | zero => exact h
  | succ n ih =>
    have ih := ih (by omega)
    rw [drkF_s]
    obtain ⟨a, ha, e⟩ := ih.cell (p := n) (by rw [nN_drkF]; omega) 3 (by decide)
    have ha9 : a ≤ 99 := ha
    obtain ⟨d, hd, e2⟩ := drB_nI (drkF r n (5 + 7 * n))
    rw [e, e2, dkV_nI a ha9 d hd]
    exact InvX_upd ih (by decide) ⟨a - d, by show _ ≤ 99; omega, rfl⟩
theorem hrB_I {r : Nat → Int32} (h : InvX r) (z : Int32) : InvX (hrB r z) := by
  unfold hrB
  exact drwF_I (spkF_I (hrA_I h) _ _ _) _ (by rw [nN_spkF, nN_hrA]; exact Nat.le_refl _)
theorem hourF_I {r : Nat → Int32} (h : InvX r) (z : Int32) : InvX (hourF r z) := by
  unfold hourF
  refine InvX_1 ?_
  unfold hrC
  split
  · exact drkF_I (hrB_I h z) _ (by rw [nN_hrB]; exact Nat.le_refl _)
  · exact hrB_I h z
theorem hoursF_I {r : Nat → Int32} (h : InvX r) (n : Nat) : InvX (hoursF r n) := by
  induction n with
  | zero => exact h
  | succ n ih => exact hourF_I ih 0
/-! the cells of a changed row -/
theorem HX_4 {g : GG} {b q : Nat → Nat} {r : Nat → Int32} {z : Int32} {p : Nat} (h : InvX r) (hp : p < nN r) : HG g b q (r 0) (flgF r 4 ||| ((1 : Int32) <<< (nI p &&& 31))) (flgF r 5) (r 2) (r 3) (r 1) (r 4) z (kdc q r) (colv r 1) (colv r 2) (colv r 3) (colv r 6) = HX g b q (upd r (5 + 7 * p + 4) 1) z :=
  HX_cg (upd_n (by omega)) (flg_set h (Or.inl rfl) hp) (flgF_upd_n (by omega) (fun _ => by omega)) (upd_n (by omega)) (upd_n (by omega)) (upd_n (by omega)) (upd_n (by omega)) rfl (kdc_upd_n (by omega) (fun _ => by omega)) (colv_upd_n (fun _ => by omega)) (colv_upd_n (fun _ => by omega)) (colv_upd_n (fun _ => by omega)) (colv_upd_n (fun _ => by omega))
theorem HX_c3 {g : GG} {b q : Nat → Nat} {r : Nat → Int32} {z v : Int32} {p : Nat} : HG g b q (r 0) (flgF r 4) (flgF r 5) (r 2) (r 3) (r 1) (r 4) z (kdc q r) (colv r 1) (colv r 2) (upd (colv r 3) p v) (colv r 6) = HX g b q (upd r (5 + 7 * p + 3) v) z :=
  HX_cg (upd_n (by omega)) (flgF_upd_n (by omega) (fun _ => by omega)) (flgF_upd_n (by omega) (fun _ => by omega)) (upd_n (by omega)) (upd_n (by omega)) (upd_n (by omega)) (upd_n (by omega)) rfl (kdc_upd_n (by omega) (fun _ => by omega)) (colv_upd_n (fun _ => by omega)) (colv_upd_n (fun _ => by omega)) colv_upd_s (colv_upd_n (fun _ => by omega))
theorem HX_c2 {g : GG} {b q : Nat → Nat} {r : Nat → Int32} {z v : Int32} {p : Nat} : HG g b q (r 0) (flgF r 4) (flgF r 5) (r 2) (r 3) (r 1) (r 4) z (kdc q r) (colv r 1) (upd (colv r 2) p v) (colv r 3) (colv r 6) = HX g b q (upd r (5 + 7 * p + 2) v) z :=
  HX_cg (upd_n (by omega)) (flgF_upd_n (by omega) (fun _ => by omega)) (flgF_upd_n (by omega) (fun _ => by omega)) (upd_n (by omega)) (upd_n (by omega)) (upd_n (by omega)) (upd_n (by omega)) rfl (kdc_upd_n (by omega) (fun _ => by omega)) (colv_upd_n (fun _ => by omega)) colv_upd_s (colv_upd_n (fun _ => by omega)) (colv_upd_n (fun _ => by omega))
theorem HX_c1 {g : GG} {b q : Nat → Nat} {r : Nat → Int32} {z v : Int32} {p : Nat} : HG g b q (r 0) (flgF r 4) (flgF r 5) (r 2) (r 3) (r 1) (r 4) z (kdc q r) (upd (colv r 1) p v) (colv r 2) (colv r 3) (colv r 6) = HX g b q (upd r (5 + 7 * p + 1) v) z :=
  HX_cg (upd_n (by omega)) (flgF_upd_n (by omega) (fun _ => by omega)) (flgF_upd_n (by omega) (fun _ => by omega)) (upd_n (by omega)) (upd_n (by omega)) (upd_n (by omega)) (upd_n (by omega)) rfl (kdc_upd_n (by omega) (fun _ => by omega)) colv_upd_s (colv_upd_n (fun _ => by omega)) (colv_upd_n (fun _ => by omega)) (colv_upd_n (fun _ => by omega))
theorem HX_c6 {g : GG} {b q : Nat → Nat} {r : Nat → Int32} {z v : Int32} {p : Nat} : HG g b q (r 0) (flgF r 4) (flgF r 5) (r 2) (r 3) (r 1) (r 4) z (kdc q r) (colv r 1) (colv r 2) (colv r 3) (upd (colv r 6) p v) = HX g b q (upd r (5 + 7 * p + 6) v) z :=
  HX_cg (upd_n (by omega)) (flgF_upd_n (by omega) (fun _ => by omega)) (flgF_upd_n (by omega) (fun _ => by omega)) (upd_n (by omega)) (upd_n (by omega)) (upd_n (by omega)) (upd_n (by omega)) rfl (kdc_upd_n (by omega) (fun _ => by omega)) (colv_upd_n (fun _ => by omega)) (colv_upd_n (fun _ => by omega)) (colv_upd_n (fun _ => by omega)) colv_upd_s
theorem HX_v1 {g : GG} {b q : Nat → Nat} {r : Nat → Int32} {z v : Int32} : HG g b q (r 0) (flgF r 4) (flgF r 5) (r 2) (r 3) v (r 4) z (kdc q r) (colv r 1) (colv r 2) (colv r 3) (colv r 6) = HX g b q (upd r 1 v) z :=
  HX_cg (upd_n (by omega)) (flgF_upd_n (by omega) (fun _ => by omega)) (flgF_upd_n (by omega) (fun _ => by omega)) (upd_n (by omega)) (upd_n (by omega)) (upd_s _ _ _) (upd_n (by omega)) rfl (kdc_upd_n (by omega) (fun _ => by omega)) (colv_upd_n (fun _ => by omega)) (colv_upd_n (fun _ => by omega)) (colv_upd_n (fun _ => by omega)) (colv_upd_n (fun _ => by omega))
theorem HX_v2 {g : GG} {b q : Nat → Nat} {r : Nat → Int32} {z v : Int32} : HG g b q (r 0) (flgF r 4) (flgF r 5) v (r 3) (r 1) (r 4) z (kdc q r) (colv r 1) (colv r 2) (colv r 3) (colv r 6) = HX g b q (upd r 2 v) z :=
  HX_cg (upd_n (by omega)) (flgF_upd_n (by omega) (fun _ => by omega)) (flgF_upd_n (by omega) (fun _ => by omega)) (upd_s _ _ _) (upd_n (by omega)) (upd_n (by omega)) (upd_n (by omega)) rfl (kdc_upd_n (by omega) (fun _ => by omega)) (colv_upd_n (fun _ => by omega)) (colv_upd_n (fun _ => by omega)) (colv_upd_n (fun _ => by omega)) (colv_upd_n (fun _ => by omega))
theorem HX_v3 {g : GG} {b q : Nat → Nat} {r : Nat → Int32} {z v : Int32} : HG g b q (r 0) (flgF r 4) (flgF r 5) (r 2) v (r 1) (r 4) z (kdc q r) (colv r 1) (colv r 2) (colv r 3) (colv r 6) = HX g b q (upd r 3 v) z :=
  HX_cg (upd_n (by omega)) (flgF_upd_n (by omega) (fun _ => by omega)) (flgF_upd_n (by omega) (fun _ => by omega)) (upd_n (by omega)) (upd_s _ _ _) (upd_n (by omega)) (upd_n (by omega)) rfl (kdc_upd_n (by omega) (fun _ => by omega)) (colv_upd_n (fun _ => by omega)) (colv_upd_n (fun _ => by omega)) (colv_upd_n (fun _ => by omega)) (colv_upd_n (fun _ => by omega))
theorem HX_v4 {g : GG} {b q : Nat → Nat} {r : Nat → Int32} {z v : Int32} : HG g b q (r 0) (flgF r 4) (flgF r 5) (r 2) (r 3) (r 1) v z (kdc q r) (colv r 1) (colv r 2) (colv r 3) (colv r 6) = HX g b q (upd r 4 v) z :=
  HX_cg (upd_n (by omega)) (flgF_upd_n (by omega) (fun _ => by omega)) (flgF_upd_n (by omega) (fun _ => by omega)) (upd_n (by omega)) (upd_n (by omega)) (upd_n (by omega)) (upd_s _ _ _) rfl (kdc_upd_n (by omega) (fun _ => by omega)) (colv_upd_n (fun _ => by omega)) (colv_upd_n (fun _ => by omega)) (colv_upd_n (fun _ => by omega)) (colv_upd_n (fun _ => by omega))
theorem maxI_dk (v : Int32) : maxI 0 v = dkV v := by
  unfold maxI dkV
  by_cases h : v < 0
  · rw [if_pos h, if_neg (Int32.not_lt.mpr (Int32.le_of_lt h))]
  · rw [if_neg h]
    by_cases h2 : 0 < v
    · rw [if_pos h2]
    · rw [if_neg h2]; exact (Int32.le_antisymm (Int32.not_lt.mp h2) (Int32.not_lt.mp h)).symm
