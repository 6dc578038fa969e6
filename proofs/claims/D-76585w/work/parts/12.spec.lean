/-! THE PURE WORDS: what the reference's row of ints becomes -/
set_option maxRecDepth 100000
def bI : Bool → Int32
  | true => 1
  | false => 0
theorem bI_e0 {b : Bool} (h : bI b = 0) : b = false := by
  cases b
  · rfl
  · exact absurd h (by decide)
theorem bI_n0 {b : Bool} (h : ¬ bI b = 0) : b = true := by
  cases b
  · exact absurd rfl h
  · rfl
theorem bI_e1 {b : Bool} (h : bI b = 1) : b = true := by
  cases b
  · exact absurd h (by decide)
  · rfl
theorem bI_n1 {b : Bool} (h : ¬ bI b = 1) : b = false := by
  cases b
  · rfl
  · exact absurd rfl h
theorem bI_nar (b : Bool) : narrow .boolean (.int (bI b)) = .int (bI b) := by cases b <;> rfl
theorem bI_fit (b : Bool) : fits .boolean (.int (bI b)) = true := by cases b <;> rfl
def irem (x y : Int32) : Int32 := x - x / y * y
def minI (x y : Int32) : Int32 := if y < x then y else x
def maxI (x y : Int32) : Int32 := if x < y then y else x
def leI (a b : Int32) : Int32 := if a < b then a else b
def isInB (v lo hi : Int32) : Bool := decide (lo ≤ v) && decide (v ≤ hi)
def hsB (b k : Int32) : Bool := decide (((b >>> (k &&& 31)) &&& 1) = 1)
def itr {α : Type} (f : Nat → α → α) : Nat → α → α
  | 0, a => a
  | n + 1, a => f n (itr f n a)
def bitsF (set : Int32) : Int32 := itr (fun k n => n + ((set >>> (nI k &&& 31)) &&& 1)) 6 0
def spB (kind f : Int32) : Int32 :=
  if kind = 1 then leI 12 (f / 2 + 1 + 3) else if kind = 2 then 0 else if kind = 3 then 12 else if kind = 4 then leI 12 (2 * leI 12 (f / 2 + 1 + 3)) else if kind = 5 then 0 else f / 2 + 1
def drB (kind : Int32) : Int32 :=
  if kind = 1 then 2 else if kind = 2 then 4 else if kind = 3 then 2 else if kind = 4 then 1 else if kind = 5 then 4 else 3
/-- the number of people of a row -/
def nN (r : Nat → Int32) : Nat := (r 0).toNatClampNeg
def spI (r : Nat → Int32) (p : Nat) : Int32 := if hsB (r 4) (nI p) = true then 12 else spB (r (5 + 7 * p)) (r (5 + 7 * p + 1))
def mayD (r : Nat → Int32) (p : Nat) : Bool := decide (r (5 + 7 * p + 5) = 0) && decide (r (5 + 7 * p + 3) < 20) && (decide (r (5 + 7 * p + 4) = 0) || (decide (r (5 + 7 * p) = 5) && !hsB (r 4) (nI p)))
/-- one draws: first the water, .. -/
def drwA (r : Nat → Int32) (p : Nat) : Nat → Int32 :=
  upd (upd r 2 (r 2 - leI (r (5 + 7 * p + 2)) (r 2))) (5 + 7 * p + 3) (upd r 2 (r 2 - leI (r (5 + 7 * p + 2)) (r 2)) (5 + 7 * p + 3) + leI (r (5 + 7 * p + 2)) (r 2))
def drwB (r : Nat → Int32) (p : Nat) : Nat → Int32 :=
  if 0 < leI (r (5 + 7 * p + 2)) (r 2) then upd (drwA r p) (5 + 7 * p + 5) 1 else drwA r p
def frN (r : Nat → Int32) (p : Nat) : Nat := (r (5 + 7 * p + 6)).toNatClampNeg
/-- .. then what the friend gets -/
def givN (r1 : Nat → Int32) (p o : Nat) : Bool := decide (nI o = nI p) || decide (r1 0 ≤ nI o) || decide (r1 (5 + 7 * o + 4) = 0) || decide (r1 (5 + 7 * p + 3) ≤ r1 (5 + 7 * o + 3))
def givF (r1 : Nat → Int32) (p o : Nat) (d : Int32) : Nat → Int32 :=
  upd (upd r1 (5 + 7 * p + 3) (r1 (5 + 7 * p + 3) - d)) (5 + 7 * o + 3) (leI 99 (upd r1 (5 + 7 * p + 3) (r1 (5 + 7 * p + 3) - d) (5 + 7 * o + 3) + d))
def drawF (r : Nat → Int32) (p : Nat) : Nat → Int32 :=
  if mayD r p = true then
    (if givN (drwB r p) p (frN r p) = true then drwB r p else givF (drwB r p) p (frN r p) (leI (r (5 + 7 * p + 2)) (r 2) / 2))
  else r
def clrF (r : Nat → Int32) (n : Nat) : Nat → Int32 := itr (fun p r => upd (upd r (5 + 7 * p + 4) 0) (5 + 7 * p + 5) 0) n r
def spkF (z now : Int32) (r : Nat → Int32) (n : Nat) : Nat → Int32 := itr (fun p r => if spI r p = now ∨ hsB z (nI p) = true then upd r (5 + 7 * p + 4) 1 else r) n r
def drwF (r : Nat → Int32) (n : Nat) : Nat → Int32 := itr (fun p r => drawF r p) n r
def dkV (v : Int32) : Int32 := if v < 0 then 0 else v
def drkF (r : Nat → Int32) (n : Nat) : Nat → Int32 := itr (fun p r => upd r (5 + 7 * p + 3) (dkV (r (5 + 7 * p + 3) - drB (r (5 + 7 * p))))) n r
def hrA (r : Nat → Int32) : Nat → Int32 := if irem (r 1) 12 = 0 then upd (clrF r (nN r)) 2 (leI 99 (clrF r (nN r) 2 + clrF r (nN r) 3)) else r
def hrB (r : Nat → Int32) (z : Int32) : Nat → Int32 := drwF (spkF z (irem (r 1) 12) (hrA r) (nN r)) (nN r)
def hrC (r : Nat → Int32) (z : Int32) : Nat → Int32 := if irem (r 1) 12 = 11 then drkF (hrB r z) (nN r) else hrB r z
/-- an hour of a row, in which the people z sneeze -/
def hourF (r : Nat → Int32) (z : Int32) : Nat → Int32 := upd (hrC r z) 1 (hrC r z 1 + 1)
def hoursF (r : Nat → Int32) (n : Nat) : Nat → Int32 := itr (fun _ r => hourF r 0) n r
def allF (r : Nat → Int32) : Int32 := itr (fun p v => v + r (5 + 7 * p + 3)) (nN r) 0
def flgF (r : Nat → Int32) (w : Nat) : Int32 := itr (fun p a => a ||| (r (5 + 7 * p + w) <<< (nI p &&& 31))) (nN r) 0
def dryB (v : Int32) (p : Nat) : Int32 := if v = 0 then 1 <<< (nI p &&& 31) else 0
def dryF (r : Nat → Int32) : Int32 := itr (fun p a => a ||| dryB (r (5 + 7 * p + 3)) p) (nN r) 0
def lstF (r : Nat → Int32) : Int32 := itr (fun p v => leI v (r (5 + 7 * p + 3))) (nN r) 1000000000
/-- what a walk over a row rests on -/
def InvM (r : Nat → Int32) : Prop := nN r ≤ 6 ∧ r 0 = nI (nN r) ∧ ∀ j, j < nN r → frN r j < 6 ∧ r (5 + 7 * j + 6) = nI (frN r j)
/-- places that an hour leaves alone -/
def kpt (k : Nat) : Prop := k ≠ 1 ∧ k ≠ 2 ∧ ∀ p, k ≠ 5 + 7 * p + 3 ∧ k ≠ 5 + 7 * p + 4 ∧ k ≠ 5 + 7 * p + 5
theorem kpt_0 : kpt 0 := ⟨by decide, by decide, fun p => by omega⟩
theorem kpt_3 : kpt 3 := ⟨by decide, by decide, fun p => by omega⟩
theorem kpt_4 : kpt 4 := ⟨by decide, by decide, fun p => by omega⟩
theorem kpt_k (j : Nat) : kpt (5 + 7 * j) := ⟨by omega, by omega, fun p => by omega⟩
theorem kpt_f (j : Nat) : kpt (5 + 7 * j + 1) := ⟨by omega, by omega, fun p => by omega⟩
theorem kpt_c (j : Nat) : kpt (5 + 7 * j + 2) := ⟨by omega, by omega, fun p => by omega⟩
theorem kpt_fr (j : Nat) : kpt (5 + 7 * j + 6) := ⟨by omega, by omega, fun p => by omega⟩
theorem upd_s (f : Nat → Int32) (k : Nat) (x : Int32) : upd f k x k = x := if_pos rfl
theorem upd_n {f : Nat → Int32} {k j : Nat} {x : Int32} (h : j ≠ k) : upd f k x j = f j := if_neg h
theorem drwA_k (r : Nat → Int32) (p : Nat) {k : Nat} (h : kpt k) : drwA r p k = r k := by
  unfold drwA; rw [upd_n (h.2.2 p).1, upd_n h.2.1]
theorem drwB_k (r : Nat → Int32) (p : Nat) {k : Nat} (h : kpt k) : drwB r p k = r k := by
  unfold drwB
  by_cases c : 0 < leI (r (5 + 7 * p + 2)) (r 2)
  · rw [if_pos c, upd_n (h.2.2 p).2.2, drwA_k r p h]
  · rw [if_neg c, drwA_k r p h]
theorem givF_k (r : Nat → Int32) (p o : Nat) (d : Int32) {k : Nat} (h : kpt k) : givF r p o d k = r k := by
  unfold givF; rw [upd_n (h.2.2 o).1, upd_n (h.2.2 p).1]
theorem drawF_k (r : Nat → Int32) (p : Nat) {k : Nat} (h : kpt k) : drawF r p k = r k := by
  unfold drawF
  by_cases c : mayD r p = true
  · rw [if_pos c]
    by_cases c2 : givN (drwB r p) p (frN r p) = true
    · rw [if_pos c2, drwB_k r p h]
    · rw [if_neg c2, givF_k _ _ _ _ h, drwB_k r p h]
  · rw [if_neg c]
theorem clrF_k (r : Nat → Int32) (n : Nat) {k : Nat} (h : kpt k) : clrF r n k = r k := by
  induction n with
  | zero => rfl
  | succ n ih => exact (upd_n (h.2.2 n).2.2).trans ((upd_n (h.2.2 n).2.1).trans ih)
theorem clrF_s (r : Nat → Int32) (n : Nat) : clrF r (n + 1) = upd (upd (clrF r n) (5 + 7 * n + 4) 0) (5 + 7 * n + 5) 0 := rfl
theorem clrF_2 (r : Nat → Int32) (n : Nat) : clrF r n 2 = r 2 := by
  induction n with
  | zero => rfl
  | succ n ih => rw [clrF_s, upd_n (show 2 ≠ 5 + 7 * n + 5 by omega), upd_n (show 2 ≠ 5 + 7 * n + 4 by omega), ih]
theorem clrF_1 (r : Nat → Int32) (n : Nat) : clrF r n 1 = r 1 := by
  induction n with
  | zero => rfl
  | succ n ih => rw [clrF_s, upd_n (show 1 ≠ 5 + 7 * n + 5 by omega), upd_n (show 1 ≠ 5 + 7 * n + 4 by omega), ih]
theorem spkF_s (z now : Int32) (r : Nat → Int32) (n : Nat) : spkF z now r (n + 1) = if spI (spkF z now r n) n = now ∨ hsB z (nI n) = true then upd (spkF z now r n) (5 + 7 * n + 4) 1 else spkF z now r n := rfl
theorem spkF_k (z now : Int32) (r : Nat → Int32) (n : Nat) {k : Nat} (h : kpt k) : spkF z now r n k = r k := by
  induction n with
  | zero => rfl
  | succ n ih =>
    rw [spkF_s]
    by_cases c : spI (spkF z now r n) n = now ∨ hsB z (nI n) = true
    · rw [if_pos c, upd_n (h.2.2 n).2.1, ih]
    · rw [if_neg c, ih]
theorem drwF_k (r : Nat → Int32) (n : Nat) {k : Nat} (h : kpt k) : drwF r n k = r k := by
  induction n with
  | zero => rfl
  | succ n ih => exact (drawF_k _ n h).trans ih
theorem drkF_s (r : Nat → Int32) (n : Nat) : drkF r (n + 1) = upd (drkF r n) (5 + 7 * n + 3) (dkV (drkF r n (5 + 7 * n + 3) - drB (drkF r n (5 + 7 * n)))) := rfl
theorem drkF_k (r : Nat → Int32) (n : Nat) {k : Nat} (h : kpt k) : drkF r n k = r k := by
  induction n with
  | zero => rfl
  | succ n ih => exact (upd_n (h.2.2 n).1).trans ih
theorem hrA_k (r : Nat → Int32) {k : Nat} (h : kpt k) : hrA r k = r k := by
  unfold hrA
  by_cases c : irem (r 1) 12 = 0
  · rw [if_pos c, upd_n h.2.1, clrF_k r _ h]
  · rw [if_neg c]
theorem hrB_k (r : Nat → Int32) (z : Int32) {k : Nat} (h : kpt k) : hrB r z k = r k := by
  unfold hrB; rw [drwF_k _ _ h, spkF_k _ _ _ _ h, hrA_k r h]
theorem hrC_k (r : Nat → Int32) (z : Int32) {k : Nat} (h : kpt k) : hrC r z k = r k := by
  unfold hrC
  by_cases c : irem (r 1) 12 = 11
  · rw [if_pos c, drkF_k _ _ h, hrB_k r z h]
  · rw [if_neg c, hrB_k r z h]
theorem hourF_k (r : Nat → Int32) (z : Int32) {k : Nat} (h : kpt k) : hourF r z k = r k := by
  unfold hourF; rw [upd_n h.1, hrC_k r z h]
theorem InvM.same {r r' : Nat → Int32} (h : InvM r) (e : ∀ k, kpt k → r' k = r k) : InvM r' := by
  have h0 : nN r' = nN r := by unfold nN; rw [e 0 kpt_0]
  have hf : ∀ j, frN r' j = frN r j := fun j => by unfold frN; rw [e _ (kpt_fr j)]
  refine ⟨by rw [h0]; exact h.1, by rw [h0, e 0 kpt_0]; exact h.2.1, fun j hj => ?_⟩
  rw [h0] at hj
  rw [hf, e _ (kpt_fr j)]
  exact h.2.2 j hj
theorem nN_same {r r' : Nat → Int32} (e : r' 0 = r 0) : nN r' = nN r := by unfold nN; rw [e]
theorem InvM.hour {r : Nat → Int32} (h : InvM r) (z : Int32) : InvM (hourF r z) := h.same fun _ hk => hourF_k r z hk
theorem hoursF_k (r : Nat → Int32) (n : Nat) {k : Nat} (h : kpt k) : hoursF r n k = r k := by
  induction n with
  | zero => rfl
  | succ n ih => exact (hourF_k _ 0 h).trans ih
theorem InvM.hours {r : Nat → Int32} (h : InvM r) (n : Nat) : InvM (hoursF r n) := h.same fun _ hk => hoursF_k r n hk
section
variable {p : Program} {l : Launch} {e : Env} {R : Room} {s : State} {m : MethodId} {args : Array Value} {below : List Frame} {meth : Method} {c : Code} {H : Heap} {locs : List Loc} {cells slots : Nat} {Q : State → Prop} {pc : Nat} {ls : Array Slot} {rest : List Value}
theorem r_topi {x x' : Int32} (h : x = x') (k : W p l e R s m args below meth c H locs cells slots Q (F0 m pc ls (.int x' :: rest))) : W p l e R s m args below meth c H locs cells slots Q (F0 m pc ls (.int x :: rest)) := by rw [h]; exact k
theorem r_topl {x x' : Int64} (h : x = x') (k : W p l e R s m args below meth c H locs cells slots Q (F0 m pc ls (.long x' :: rest))) : W p l e R s m args below meth c H locs cells slots Q (F0 m pc ls (.long x :: rest)) := by rw [h]; exact k
end
/-- an array's contents count by its places alone -/
theorem WS.arr {g : GG} {A : Nat → Prop} {H0 : Heap} {ws : va_W} {H : Heap} {locs : List Loc} (h : WS g A H0 ws H locs) (q0 : Nat) {a n : Nat} {cA : ClassId} {f f' : Nat → Int32} (ha : ws[q0]? = some (a, .inl (cA, n, .inl f))) (hf : ∀ k, k < n → f k = f' k) : WS g A H0 (ws.set q0 (a, .inl (cA, n, .inl f'))) H locs := by
  refine ⟨h.1.set h.2.1 ha ?_ (fun _ _ => rfl), h.2.1.set ha, h.2.2⟩
  have h1 := h.1 q0 _ ha
  show H[a]? = some (vp_cell _ _)
  have h2 : H[a]? = some (vp_cell cA (n, .inl f)) := h1
  rw [h2, vp_cell_i, vp_cell_i]
  congr 1
  unfold arrV
  congr 1
  exact congrArg Array.ofFn (funext fun j => congrArg Value.int (hf j.val j.isLt))
