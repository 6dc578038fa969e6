/-! THE ACTS, pure, second part -/
set_option maxRecDepth 100000
/-- two who speak or rest -/
def twR (s : Nat → Int32) (a : Nat) (x : Int32) (b : Nat) (y : Int32) : Nat → Int32 :=
  if y = 1 then upd (if x = 1 then upd s (5 + 7 * a + 4) 1 else s) (5 + 7 * b + 4) 1 else (if x = 1 then upd s (5 + 7 * a + 4) 1 else s)
theorem twR_I {s : Nat → Int32} (hI : InvM s) (a : Nat) (x : Int32) (b : Nat) (y : Int32) : InvM (twR s a x b y) := by
  have h1 : InvM (if x = 1 then upd s (5 + 7 * a + 4) 1 else s) := by
    split
    · exact InvM_upd hI (by omega) (fun j => by omega)
    · exact hI
  unfold twR
  split
  · exact InvM_upd h1 (by omega) (fun j => by omega)
  · exact h1
def twV (s : Nat → Int32) (w a : Nat) (x : Int32) (b : Nat) (y : Int32) (n : Nat) : Int32 := hoursF (twR s a x b y) n (5 + 7 * w + 3) + 2 * (if w = a then x else y)
def twB (s : Nat → Int32) (a b n : Nat) (k : Nat) : Bool :=
  decide (twV s a a (1 - nI (k / 2)) b (nI (k % 2)) n ≤ twV s a a (nI (k / 2)) b (nI (k % 2)) n) && decide (twV s b a (nI (k / 2)) b (1 - nI (k % 2)) n ≤ twV s b a (nI (k / 2)) b (nI (k % 2)) n)
def twF (c : Nat → Bool) : Nat → Nat → Int32
  | 0, _ => -9
  | k + 1, j => if c j = true then nI (10 * (j / 2) + j % 2) else twF c k (j + 1)
theorem twF_t {c : Nat → Bool} {N j : Nat} (h : j < N) (hc : c j = true) : twF c (N - j) j = nI (10 * (j / 2) + j % 2) := by
  rw [show N - j = (N - (j + 1)) + 1 by omega, twF, if_pos hc]
theorem twF_f {c : Nat → Bool} {N j : Nat} (h : j < N) (hc : c j = false) : twF c (N - j) j = twF c (N - (j + 1)) (j + 1) := by
  rw [show N - j = (N - (j + 1)) + 1 by omega, twF, if_neg (by rw [hc]; decide)]
theorem twF_e {c : Nat → Bool} {N j : Nat} (h : N ≤ j) : twF c (N - j) j = -9 := by
  rw [show N - j = 0 by omega, twF]
def wTwo (s : Nat → Int32) (a b n : Int32) : Int32 := if psB s a = true then (if psB s b = true then (if a = b then -1 else wrF n 0 24) else -1) else -1
def vTwo (s : Nat → Int32) (a b n : Int32) : Int32 := twF (twB s (tN a) (tN b) (tN n)) 4 0
/-- fractions -/
def ptN (a b : Nat) (w : Int32) : Int64 := if a = 0 then w.toInt64 else lN ((if w = 0 then a else b) / Nat.gcd a b)
def ansL (W : Int32) (v : Int64) : Int64 := if W = 0 then v else 4000000000000000000 - W.toInt64
theorem ansL_0 (v : Int64) : ansL 0 v = v := if_pos rfl
theorem ansL_n {W : Int32} (h : ¬ W = 0) (v : Int64) : ansL W v = 4000000000000000000 - W.toInt64 := if_neg h
def wSnz (s : Nat → Int32) (p n t v w : Int32) : Int32 :=
  if psB s p = true then (if n < 0 then -4 else if v < 0 then -4 else if t < 2 then -4 else if 7 < n then -6 else if 20 < t then -6 else if 99 < v then -6 else wBit w) else -1
/-- sneezes: the weight of a set behind k hours, and the row -/
def szW (t set k : Nat) : Nat := itr (fun k w => w * (if hsB (nI set) (nI k) = true then 1 else t - 1)) k 1
def szR (s : Nat → Int32) (p set k : Nat) : Nat → Int32 := itr (fun k r => hourF r (if hsB (nI set) (nI k) = true then 1 <<< (nI p &&& 31) else 0)) k s
def szC (s : Nat → Int32) (p n t : Nat) (v : Int32) (set : Nat) : Nat := if szR s p set n (5 + 7 * p + 3) < v then 0 else szW t set n
def szA (s : Nat → Int32) (p n t : Nat) (v : Int32) (k : Nat) : Nat := itr (fun set a => a + szC s p n t v set) k 0
theorem szW_le (t set : Nat) (ht : t ≤ 20) (k : Nat) : szW t set k ≤ 20 ^ k := by
  induction k with
  | zero => exact Nat.le_refl 1
  | succ k ih =>
    show szW t set k * (if hsB (nI set) (nI k) = true then 1 else t - 1) ≤ 20 ^ (k + 1)
    rw [Nat.pow_succ]
    refine Nat.mul_le_mul ih ?_
    split <;> omega
theorem szA_le (s : Nat → Int32) (p n t : Nat) (v : Int32) (hn : n ≤ 7) (ht : t ≤ 20) (k : Nat) : szA s p n t v k ≤ k * 20 ^ 7 := by
  induction k with
  | zero => exact Nat.zero_le _
  | succ k ih =>
    show szA s p n t v k + szC s p n t v k ≤ (k + 1) * 20 ^ 7
    have h1 : szC s p n t v k ≤ 20 ^ 7 := by
      unfold szC
      split
      · exact Nat.zero_le _
      · exact Nat.le_trans (szW_le t k ht n) (Nat.pow_le_pow_right (by decide) hn)
    rw [Nat.succ_mul]
    omega
theorem szR_I {s : Nat → Int32} (hI : InvM s) (p set k : Nat) : InvM (szR s p set k) := by
  induction k with
  | zero => exact hI
  | succ k ih => exact ih.hour _
def vSnz (s : Nat → Int32) (p n t : Nat) (v w : Int32) : Int64 := ptN (szA s p n t v (2 ^ n)) (t ^ n) w
theorem shl_7 : ∀ n, n ≤ 7 → (1 : Int32) <<< (nI n &&& 31) = nI (2 ^ n) := by decide
def allN (r : Nat → Int32) : Nat := (allF r).toNatClampNeg
def whB (s : Nat → Int32) (R : Nat → Int32) (n p w k : Nat) : Bool := alB (fun i => decide (hoursF (upd s (5 + 7 * p + w) (nI k)) i (5 + 7 * p + 3) = R i)) n
def whA (s : Nat → Int32) (R : Nat → Int32) (n p w k : Nat) : Int32 := itr (fun k a => a ||| (if whB s R n p w k = true then 1 <<< (nI k &&& 31) else 0)) k 0
def wWht (s : Nat → Int32) (p w : Int32) : Int32 := if psB s p = true then wBit w else -1
def vWht (s : Nat → Int32) (R : Nat → Int32) (rn p w : Int32) : Int32 := whA s R (tN rn) (tN p) (tN w) (if tN w = 0 then 6 else 10)
theorem bI_and (a b : Bool) : bI a &&& bI b = bI (a && b) := by cases a <;> cases b <;> rfl
def iA (W x1 x0 : Int32) : Int32 := if W = 0 then x1 else x0
theorem iA_0 (x1 x0 : Int32) : iA 0 x1 x0 = x1 := if_pos rfl
theorem iA_n {W : Int32} (h : ¬ W = 0) (x1 x0 : Int32) : iA W x1 x0 = x0 := if_neg h
def wRow (v rn : Int32) : Int32 := if wrF v 0 99 = 0 then (if rn = 16 then -6 else 0) else wrF v 0 99
def juB (s R : Nat → Int32) (p : Nat) : Bool := !psB s (nI p) || !decide (s (5 + 7 * p + 2) = R p)
def vJud (s R : Nat → Int32) (rn : Int32) : Int32 := ffV (juB s R) (tN rn) 0
def nxZ (z : Int32) : Int32 := z * 1664525 + 1013904223
def drZ (z : Int32) : Int32 := irem ((z &&& 2147483647) / 256) 31
def ltS (x : (Nat → Int32) × Int32) : (Nat → Int32) × Int32 := (hoursF (upd x.1 3 (drZ (nxZ x.2))) 12, nxZ x.2)
def ltA (s : Nat → Int32) (z : Int32) (i : Nat) : (Nat → Int32) × Int32 := itr (fun _ x => ltS x) i (s, z)
theorem ltA_I {s : Nat → Int32} (hI : InvM s) (z : Int32) (i : Nat) : InvM (ltA s z i).1 := by
  induction i with
  | zero => exact hI
  | succ i ih => exact (InvM_upd ih (by decide) (fun j => by omega)).hours 12
def ltV (w : Int32) (r : Nat → Int32) : Int32 := if w = 0 then allF r else bitsF (dryF r)
def ltB (s : Nat → Int32) (w : Int32) (x : Int32 × Int32) : Int32 × Int32 := (x.1 + ltV w (ltA s x.2 4).1, (ltA s x.2 4).2)
def ltC (s : Nat → Int32) (w z : Int32) (k : Nat) : Int32 × Int32 := itr (fun _ x => ltB s w x) k (0, z)
def wLts (n w : Int32) : Int32 := if n < 1 then -4 else if 20 < n then -6 else wBit w
def wOn (hi : Int32) : Int32 := if hi = 0 then -3 else 0
def vCnt (s rf : Nat → Int32) (rn lm w : Int32) : Int32 :=
  if isInB w 11 16 = true then rf (tN w - 10) else if w = 0 then s 0 else if w = 1 then s 1 else if w = 2 then s 2 else if w = 3 then s 3 else if w = 4 then flgF s 4 else if w = 5 then allF s else if w = 6 then rn else if w = 7 then lm else -9
