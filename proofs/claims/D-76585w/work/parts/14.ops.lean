/-! THE ACTS, pure: for each its refusal (0: none), its answer, what it makes of the row -/
set_option maxRecDepth 100000
def ans (W v : Int32) : Int32 := if W = 0 then v else W
def rfA (W : Int32) (rf : Nat → Int32) : Nat → Int32 := if W = 0 then rf else rfU rf W
def sA (W : Int32) (s1 s0 : Nat → Int32) : Nat → Int32 := if W = 0 then s1 else s0
theorem ans_0 (v : Int32) : ans 0 v = v := if_pos rfl
theorem rfA_0 (rf : Nat → Int32) : rfA 0 rf = rf := if_pos rfl
theorem sA_0 (s1 s0 : Nat → Int32) : sA 0 s1 s0 = s1 := if_pos rfl
theorem ans_n {W : Int32} (h : ¬ W = 0) (v : Int32) : ans W v = W := if_neg h
theorem rfA_n {W : Int32} (h : ¬ W = 0) (rf : Nat → Int32) : rfA W rf = rfU rf W := if_neg h
theorem sA_n {W : Int32} (h : ¬ W = 0) (s1 s0 : Nat → Int32) : sA W s1 s0 = s0 := if_neg h
theorem sA_same (W : Int32) (s : Nat → Int32) : sA W s s = s := by unfold sA; split <;> rfl
def wPers (s : Nat → Int32) (p w : Int32) : Int32 := if psB s p = true then (if isInB w 0 8 = true then 0 else -2) else -1
def vPers (s : Nat → Int32) (p w : Int32) : Int32 := if isInB w 0 6 = true then s (5 + 7 * tN p + tN w) else if w = 7 then spI s (tN p) else drB (s (5 + 7 * tN p))
def wSpk (s : Nat → Int32) (p : Int32) : Int32 := if psB s p = true then (if s (5 + 7 * tN p + 4) = 1 then -3 else 0) else -1
def sSpk (s : Nat → Int32) (p : Int32) : Nat → Int32 := upd s (5 + 7 * tN p + 4) 1
def vSpk (s : Nat → Int32) (p : Int32) : Int32 := bitsF (flgF (sSpk s p) 4)
def wBfr (s : Nat → Int32) (p f : Int32) : Int32 := if psB s p = true then (if isInB f 0 5 = true then 0 else -1) else -1
/-- a person's .. is set, within 0 .. most -/
def wOf (s : Nat → Int32) (p v most : Int32) : Int32 := if psB s p = true then wrF v 0 most else -1
def sOf (s : Nat → Int32) (p : Int32) (w : Nat) (v : Int32) : Nat → Int32 := upd s (5 + 7 * tN p + w) v
def vOf (s : Nat → Int32) (p : Int32) (w : Nat) : Int32 := s (5 + 7 * tN p + w)
def wTrn (s : Nat → Int32) (p k f : Int32) : Int32 := if psB s p = true then (if isInB k 0 5 = true then wrF f 0 9 else -2) else -1
def vTrn (s : Nat → Int32) (p : Int32) : Int32 := 10 * s (5 + 7 * tN p) + s (5 + 7 * tN p + 1)
def sTrn (s : Nat → Int32) (p k f : Int32) : Nat → Int32 := upd (upd s (5 + 7 * tN p) k) (5 + 7 * tN p + 1) f
def wHrs (s : Nat → Int32) (n : Int32) : Int32 := if n < 1 then -4 else if 60 < n then -6 else if 999 < s 1 + n then -6 else 0
def wThn (n w : Int32) : Int32 := if wrF n 0 60 = 0 then (if isInB w 0 3 = true then 0 else -2) else wrF n 0 60
def vThn (r : Nat → Int32) (w : Int32) : Int32 := if w = 0 then r 2 else if w = 1 then flgF r 4 else if w = 2 then flgF r 5 else allF r
/-- after how many hours a place is 0 -/
def wnF (s : Nat → Int32) (k : Nat) : Int32 := ffV (fun n => decide (hoursF s n k = 0)) 61 0
def fdS (s : Nat → Int32) (p : Nat) (x : Int32 × Int32) : Int32 × Int32 := if wnF s (5 + 7 * p + 3) < 0 then x else if x.2 ≤ wnF s (5 + 7 * p + 3) then x else (nI p, wnF s (5 + 7 * p + 3))
def fdA (s : Nat → Int32) (n : Nat) : Int32 × Int32 := itr (fdS s) n (-9, 1000000000)
def fdF (s : Nat → Int32) : Int32 := (fdA s (nN s)).1
def wDry (s : Nat → Int32) (p : Int32) : Int32 := if p = -1 then 0 else if psB s p = true then 0 else -1
def vDry (s : Nat → Int32) (p : Int32) : Int32 := if p = -1 then fdF s else wnF s (5 + 7 * tN p + 3)
def vFlb (s : Nat → Int32) (n : Nat) : Int32 := ffV (fun v => ndB (upd s 3 (nI v)) (-1) (n + 1)) 31 0
def vCnb (s : Nat → Int32) (p : Int32) (n : Nat) : Int32 := ffV (fun v => ndB (upd s (5 + 7 * tN p + 2) (nI v)) (1 <<< (p &&& 31)) (n + 1)) 10 0
/-- more than before, and whose -/
def mxS (v : Nat → Int32) (o : Nat) (x : Int32 × Int32) : Int32 × Int32 := if v o ≤ x.2 then x else (nI o, v o)
def mnS (v : Nat → Int32) (o : Nat) (x : Int32 × Int32) : Int32 × Int32 := if x.2 ≤ v o then x else (nI o, v o)
def frV (s : Nat → Int32) (p : Int32) (n o : Nat) : Int32 := lstF (hoursF (upd s (5 + 7 * tN p + 6) (nI o)) n)
def frS (s : Nat → Int32) (p : Int32) (n o : Nat) (x : Int32 × Int32) : Int32 × Int32 := if nI o = p then x else mxS (frV s p n) o x
def frA (s : Nat → Int32) (p : Int32) (n k : Nat) : Int32 × Int32 := itr (frS s p n) k (-9, lstF (hoursF s n))
def huV (s : Nat → Int32) (n o : Nat) : Int32 := allF (hoursF (upd s 4 (1 <<< (nI o &&& 31))) n)
def huA (s : Nat → Int32) (n k : Nat) : Int32 × Int32 := itr (mxS (huV s n)) k (-9, allF (hoursF s n))
def fwS (s : Nat → Int32) (n o : Nat) (x : Int32) : Int32 := if 0 ≤ x ∧ bitsF x ≤ bitsF (nI o) then x else if ndB (upd s 4 (nI o)) (-1) (n + 1) = true then nI o else x
def fwA (s : Nat → Int32) (n k : Nat) : Int32 := itr (fwS s n) k (-9)
def woV (s : Nat → Int32) (n o : Nat) : Int32 := allF (hoursF (upd s (5 + 7 * o + 4) 1) n)
def woA (s : Nat → Int32) (n k : Nat) : Int32 × Int32 := itr (mnS (woV s n)) k (-9, allF (hoursF s n))
theorem InvM.same2 {r r' : Nat → Int32} (h : InvM r) (e0 : r' 0 = r 0) (ef : ∀ j, r' (5 + 7 * j + 6) = r (5 + 7 * j + 6)) : InvM r' := by
  have h0 : nN r' = nN r := by unfold nN; rw [e0]
  have hf : ∀ j, frN r' j = frN r j := fun j => by unfold frN; rw [ef]
  refine ⟨by rw [h0]; exact h.1, by rw [h0, e0]; exact h.2.1, fun j hj => ?_⟩
  rw [h0] at hj
  rw [hf, ef]
  exact h.2.2 j hj
theorem InvM_upd {r : Nat → Int32} (h : InvM r) {k : Nat} {x : Int32} (h0 : k ≠ 0) (hf : ∀ j, k ≠ 5 + 7 * j + 6) : InvM (upd r k x) := h.same2 (upd_n (Ne.symm h0)) (fun j => upd_n (Ne.symm (hf j)))
theorem InvM_updF {r : Nat → Int32} (h : InvM r) {k f : Nat} (hk : f < 6) : InvM (upd r (5 + 7 * k + 6) (nI f)) := by
  have e0 : upd r (5 + 7 * k + 6) (nI f) 0 = r 0 := upd_n (by omega)
  have h0 : nN (upd r (5 + 7 * k + 6) (nI f)) = nN r := by unfold nN; rw [e0]
  refine ⟨by rw [h0]; exact h.1, by rw [h0, e0]; exact h.2.1, fun j hj => ?_⟩
  rw [h0] at hj
  by_cases e : j = k
  · subst e
    have e1 : frN (upd r (5 + 7 * j + 6) (nI f)) j = f := by unfold frN; rw [upd_s]; exact nI_clamp (by omega)
    rw [e1, upd_s]; exact ⟨hk, rfl⟩
  · have e1 : upd r (5 + 7 * k + 6) (nI f) (5 + 7 * j + 6) = r (5 + 7 * j + 6) := upd_n (by omega)
    have e2 : frN (upd r (5 + 7 * k + 6) (nI f)) j = frN r j := by unfold frN; rw [e1]
    rw [e1, e2]; exact h.2.2 j hj
theorem shl_n : ∀ n, n ≤ 6 → (1 : Int32) <<< (nI n &&& 31) = nI (2 ^ n) := by decide
theorem pow_64 {n : Nat} (h : n ≤ 6) : 2 ^ n ≤ 64 := Nat.pow_le_pow_right (n := 2) (by decide) h
/-- whom to send: the others that are not dry behind n hours -/
def snR (s : Nat → Int32) (p : Nat) : Nat → Int32 := upd (upd s 2 (leI 99 (s 2 + s (5 + 7 * p + 3)))) (5 + 7 * p + 3) 0
def snV (s : Nat → Int32) (n p : Nat) : Int32 := bitsF ((((1 : Int32) <<< (s 0 &&& 31) - (1 : Int32)) &&& ((1 : Int32) <<< (nI p &&& 31) ^^^ (-1 : Int32))) &&& (dryF (hoursF (snR s p) n) ^^^ (-1 : Int32)))
def snA (s : Nat → Int32) (n k : Nat) : Int32 × Int32 := itr (mxS (snV s n)) k (-9, -1)
def wSnd (n w : Int32) : Int32 := if wrF n 0 24 = 0 then (if isInB w 0 1 = true then 0 else -2) else wrF n 0 24
def vSnd (s : Nat → Int32) (n : Nat) (w : Int32) : Int32 := if (snA s n (nN s)).1 < 0 then (snA s n (nN s)).1 else if w = 0 then (snA s n (nN s)).1 else (snA s n (nN s)).2
def vNxt (s : Nat → Int32) : Int32 := flgF (hoursF s 1) 5 &&& ((if irem (s 1) 12 = 0 then (0 : Int32) else flgF s 5) ^^^ (-1 : Int32))
/-- of the most -/
def exS (v : Nat → Int32) (p : Nat) (x : Int32 × Int32) : Int32 × Int32 := if 0 ≤ x.1 ∧ v p ≤ x.2 then x else (nI p, v p)
def exV (s : Nat → Int32) (sg : Int32) (b : Bool) (p : Nat) : Int32 := if b = true then spI s p else sg * s (5 + 7 * p + 3)
def exA (s : Nat → Int32) (sg : Int32) (b : Bool) (k : Nat) : Int32 × Int32 := itr (exS (exV s sg b)) k (-9, 0)
def exF (s : Nat → Int32) (sg : Int32) (b : Bool) : Int32 := (exA s sg b (nN s)).1
def wRch (w : Int32) : Int32 := if w = 0 then 0 else if w = 1 then 0 else if w = 2 then 0 else -2
def vRch (s : Nat → Int32) (w : Int32) : Int32 := if w = 0 then exF s 1 false else if w = 1 then exF s (-1) false else exF s 1 true
def quA (s : Nat → Int32) (h : Int32) (k : Nat) : Int32 := itr (fun p v => v + (if h < spI s p then 1 else 0)) k 0
def thA (s : Nat → Int32) (k : Nat) : Int32 := itr (fun p v => v + drB (s (5 + 7 * p))) k 0
def wPsn (s : Nat → Int32) (p : Int32) : Int32 := if psB s p = true then 0 else -1
def vLst (s : Nat → Int32) (p : Int32) : Int32 := s (5 + 7 * tN p + 3) / drB (s (5 + 7 * tN p))
def wBit (w : Int32) : Int32 := if isInB w 0 1 = true then 0 else -2
def caS (s : Nat → Int32) (p : Nat) (x : Int32 × Int32) : Int32 × Int32 :=
  if s (5 + 7 * p + 6) = nI p then x else if s 0 ≤ s (5 + 7 * p + 6) then x else (x.1 ||| (1 <<< (s (5 + 7 * p + 6) &&& 31)), x.2 + (if nI p < s (5 + 7 * p + 6) ∧ s (5 + 7 * frN s p + 6) = nI p then 1 else 0))
def caA (s : Nat → Int32) (k : Nat) : Int32 × Int32 := itr (caS s) k (0, 0)
def vCar (s : Nat → Int32) (w : Int32) : Int32 := if w = 0 then (caA s (nN s)).1 else (caA s (nN s)).2
theorem drB_nz (k : Int32) : ¬ drB k = 0 := by
  unfold drB
  split
  · decide
  · split
    · decide
    · split
      · decide
      · split
        · decide
        · split <;> decide
