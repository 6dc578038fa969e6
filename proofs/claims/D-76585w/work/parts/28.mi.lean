/-! the reference: its methods, 7 -/
set_option maxRecDepth 100000
theorem do_nu {s nu L : Nat → Int32} {M k : Nat} (h : nuOK L M k nu) : doB s (hrF L M k) (nu 0) (nu 1) = doB s (hrF L M k) (n0F L M k) (n1F L M k) ∧ doS s (hrF L M k) (nu 0) (nu 1) (nu 2) = doS s (hrF L M k) (n0F L M k) (n1F L M k) (n2F L M k) := by
  obtain ⟨h0, h1, h2⟩ := h
  rw [h0]
  by_cases c1 : hrF L M k = 112
  · rw [h1 (Or.inl c1), h2 c1]; exact ⟨rfl, rfl⟩
  by_cases c2 : hrF L M k = 102
  · rw [h1 (Or.inr (Or.inl c2))]; simp only [doB, doS, if_neg c1, if_pos c2, and_self]
  by_cases c3 : hrF L M k = 103
  · rw [h1 (Or.inr (Or.inr c3))]; simp only [doB, doS, if_neg c1, if_neg c2, if_pos c3, and_self]
  simp only [doB, doS, if_neg c1, if_neg c2, if_neg c3, and_self]
theorem n1_0 {L : Nat → Int32} {M k : Nat} (hs : stB L M k = true) (hc : hrF L M k = 102) : 0 ≤ n1F L M k := by
  unfold stB at hs
  rw [if_neg (by rw [hc]; decide), if_pos hc] at hs
  simp only [Bool.and_eq_true] at hs
  obtain ⟨q, hq, e⟩ := d1_rng hs.1.2
  unfold n1F
  rw [if_neg (by rw [hc]; decide), e]
  exact (nI_leI (a := 0) (b := q) (by decide) (by omega)).mpr (Nat.zero_le _)
theorem stP_le (L : Nat → Int32) (M k : Nat) : stP L M k ≤ k + 5 := by
  unfold stP en1
  repeat' split
  all_goals omega
theorem m1000 {q : Nat} (h : q ≤ 905) : ¬ (-1000 - nI q = -9) := by
  have : ∀ q, q ≤ 905 → ¬ (-1000 - nI q = -9) := by decide +kernel
  exact this q h
theorem m2000 {q : Nat} (h : q ≤ 905) : ¬ (-2000 - nI q = -9) := by
  have : ∀ q, q ≤ 905 → ¬ (-2000 - nI q = -9) := by decide +kernel
  exact this q h
theorem scR_ok {L : Nat → Int32} {M f k n : Nat} (h : (scR L M (f + 1) k n).1 = -9) (hk : k ≤ 900) : stB L M k = true ∧ (stP L M k < M → scR L M (f + 1) k n = scR L M f (stP L M k) (n + 1)) := by
  have hsp := stP_le L M k
  rw [scR] at h
  by_cases c : stB L M k = true
  · exact ⟨c, fun h2 => by rw [scR, if_pos c, if_pos h2]⟩
  · rw [if_neg c] at h
    exact absurd h (m1000 (by omega))
theorem exR_end {L t : Nat → Int32} {M f k : Nat} (h : ¬ k < M) : exR L M f k t = (-9, t) := by
  cases f with
  | zero => rfl
  | succ f => rw [exR, if_neg h]
theorem nN_6 {s : Nat → Int32} (h : InvM s) (h6 : ¬ s 0 = 6) : nN s < 6 := by
  obtain ⟨hN, h0, hf⟩ := h
  rcases Nat.lt_or_ge (nN s) 6 with q | q
  · exact q
  · exact absurd (by rw [h0, show nN s = 6 by omega]; rfl) h6
def wLet (M : Nat) (v : Int32) : Int32 := if v < 0 then -4 else if 255 < v then -6 else if M = 96 then -6 else 0
set_option maxHeartbeats 4000000 in
set_option maxRecDepth 100000 in
theorem kX9_addsPerson (l : Launch) (hl9 : l.stackTraces = false) (g : GG) (a : Nat → Nat) (s m im wa L R rf nu : Nat → Int32) (hi lm rn pl sd : Int32) (hI : InvM s) : MC l yX9_addsPerson cX9_addsPerson 3 (some .boolean) 1 21 0 0 g [.ref (a 0)] (WM g a s m im wa L R rf nu hi lm rn pl sd) (rtP (α := Nat → Int32) (fun x9 => ¬ s 0 = 6 → x9 = addF s (nu 0) (nu 1) (nu 2)) (some (.int (bI (!decide (s 0 = 6))))) (fun x9 => WM g a x9 m im wa L R rf nu hi lm rn pl sd)) (noX) := by
  refine MC.of (by decide) (Nat.le_of_ble_eq_true rfl) ?_
  intro p9 e9 s9 m9 args9 below9 meth9 c9 A9 ls cx htab hw hl
  have hx := cx.1
  have hb := cx.2.1
  have hts := cx.2.2.2.2.1
  have hK := cx.2.2.2.2.2.2.2.1
  have hl : lv_has ls 3 [(0, .ref (a 0))] := hl
  have J : ∀ (n9 j : Nat) , j ≤ 3 → 3 < n9 + j → nN s < 6 → ¬ s 0 = 6 → ∀ (H : Heap) (locs : List Loc) (ls : Array Slot), WS g A9 s9.heap (WM g a (itr (fun j x => upd x (5 + 7 * nN s + j) (nu j)) j s) m im wa L R rf nu hi lm rn pl sd) H locs → lv_has ls 3 [(0, .ref (a 0)), (1, .int (nI (nN s))), (2, .int (nI j))] → W p9 l e9 (rmC 1 21 0 0) s9 m9 args9 below9 meth9 c9 H locs 0 0 (vx_MQ below9 (PostA g A9 (rtP (α := Nat → Int32) (fun x9 => ¬ s 0 = 6 → x9 = addF s (nu 0) (nu 1) (nu 2)) (some (.int (bI (!decide (s 0 = 6))))) (fun x9 => WM g a x9 m im wa L R rf nu hi lm rn pl sd))) (PxA g A9 (pxR (noX))) args9 s9 0 0 A9) (F0 m9 22 ls []) := by
    intro n9
    induction n9 with
    | zero => intro j  hj hk9; exact absurd hk9 (by omega)
    | succ n9 ih_J =>
      intro j  hj hk9 hN6 c_8 H locs ls hw hl
      refine lv_iload_n hx hb dX9_addsPerson_22 rfl (lv_at hl 2 rfl) ?_
      refine lv_iconst (v := 3) hx hb dX9_addsPerson_23 (by decide) ?_
      refine lv_icmp_ge (tgt := 49) hx hb dX9_addsPerson_24 (by decide) (fun c_24 => ?_) (fun c_24 => ?_)
      · skip
        have c_24 : 3 ≤ j := (nI_leI (a := 3) (b := j) (by omega) (by omega)).mp c_24
        have e8 : j = 3 := by omega
        subst e8
        have hw : WS g A9 s9.heap (WM g a (upd (upd (upd s (5 + 7 * nN s) (nu 0)) (5 + 7 * nN s + 1) (nu 1)) (5 + 7 * nN s + 2) (nu 2)) m im wa L R rf nu hi lm rn pl sd) H locs := hw
        refine lv_aload_n hx hb dX9_addsPerson_49 rfl (lv_at hl 0 rfl) ?_
        refine r_get cx hw in_X9 0 (ci := 8) (T := TX9) (N := 13) rfl rfl 0 (by decide) q1169 (fun _ h9 => h9) rfl dX9_addsPerson_50 ?_
        refine lv_iload_n hx hb dX9_addsPerson_53 rfl (lv_at hl 1 rfl) ?_
        refine lv_iconst (v := 3) hx hb dX9_addsPerson_54 (by decide) ?_
        refine r_det (r_S cx hw (kX9_of l hl9 g (nN s) 3) (va_cwS 2 hts (lw_S q1254 q1255 q94 q1256) rfl rfl rfl (by decide +kernel) ⟨Nat.le_of_ble_eq_true rfl, Nat.le_of_ble_eq_true rfl⟩) [] rfl rfl rfl hl.1 rfl (Nat.le_of_ble_eq_true rfl) dX9_addsPerson_55 ⟨Nat.le_of_ble_eq_true rfl, Nat.le_of_ble_eq_true rfl⟩) cx hw [] rfl rfl rfl (ws' := WM g a (upd (upd (upd s (5 + 7 * nN s) (nu 0)) (5 + 7 * nN s + 1) (nu 1)) (5 + 7 * nN s + 2) (nu 2)) m im wa L R rf nu hi lm rn pl sd) (rfl) (fun H locs hw => ?_)
        refine W.eq (g2 := F0 m9 58 ls [.int (nI (5 + 7 * (nN s) + 3)), .ref (a 1)]) rfl ?_
        refine lv_iconst (v := 5) hx hb dX9_addsPerson_58 (by decide) ?_
        refine r_iast cx hw 1 rfl (5 + 7 * (nN s) + 3) rfl (by omega) (Nat.le_of_ble_eq_true rfl) dX9_addsPerson_59 (fun H locs hw => ?_)
        have hw : WS g A9 s9.heap (WM g a (upd (upd (upd (upd s (5 + 7 * nN s) (nu 0)) (5 + 7 * nN s + 1) (nu 1)) (5 + 7 * nN s + 2) (nu 2)) (5 + 7 * (nN s) + 3) 5) m im wa L R rf nu hi lm rn pl sd) H locs := hw
        refine lv_aload_n hx hb dX9_addsPerson_60 rfl (lv_at hl 0 rfl) ?_
        refine r_get cx hw in_X9 0 (ci := 8) (T := TX9) (N := 13) rfl rfl 0 (by decide) q1169 (fun _ h9 => h9) rfl dX9_addsPerson_61 ?_
        refine lv_iload_n hx hb dX9_addsPerson_64 rfl (lv_at hl 1 rfl) ?_
        refine lv_iconst (v := 4) hx hb dX9_addsPerson_65 (by decide) ?_
        refine r_det (r_S cx hw (kX9_of l hl9 g (nN s) 4) (va_cwS 2 hts (lw_S q1254 q1255 q94 q1256) rfl rfl rfl (by decide +kernel) ⟨Nat.le_of_ble_eq_true rfl, Nat.le_of_ble_eq_true rfl⟩) [] rfl rfl rfl hl.1 rfl (Nat.le_of_ble_eq_true rfl) dX9_addsPerson_66 ⟨Nat.le_of_ble_eq_true rfl, Nat.le_of_ble_eq_true rfl⟩) cx hw [] rfl rfl rfl (ws' := WM g a (upd (upd (upd (upd s (5 + 7 * nN s) (nu 0)) (5 + 7 * nN s + 1) (nu 1)) (5 + 7 * nN s + 2) (nu 2)) (5 + 7 * (nN s) + 3) 5) m im wa L R rf nu hi lm rn pl sd) (rfl) (fun H locs hw => ?_)
        refine W.eq (g2 := F0 m9 69 ls [.int (nI (5 + 7 * (nN s) + 4)), .ref (a 1)]) rfl ?_
        refine lv_iconst (v := 0) hx hb dX9_addsPerson_69 (by decide) ?_
        refine r_iast cx hw 1 rfl (5 + 7 * (nN s) + 4) rfl (by omega) (Nat.le_of_ble_eq_true rfl) dX9_addsPerson_70 (fun H locs hw => ?_)
        have hw : WS g A9 s9.heap (WM g a (upd (upd (upd (upd (upd s (5 + 7 * nN s) (nu 0)) (5 + 7 * nN s + 1) (nu 1)) (5 + 7 * nN s + 2) (nu 2)) (5 + 7 * (nN s) + 3) 5) (5 + 7 * (nN s) + 4) 0) m im wa L R rf nu hi lm rn pl sd) H locs := hw
        refine lv_aload_n hx hb dX9_addsPerson_71 rfl (lv_at hl 0 rfl) ?_
        refine r_get cx hw in_X9 0 (ci := 8) (T := TX9) (N := 13) rfl rfl 0 (by decide) q1169 (fun _ h9 => h9) rfl dX9_addsPerson_72 ?_
        refine lv_iload_n hx hb dX9_addsPerson_75 rfl (lv_at hl 1 rfl) ?_
        refine lv_iconst (v := 5) hx hb dX9_addsPerson_76 (by decide) ?_
        refine r_det (r_S cx hw (kX9_of l hl9 g (nN s) 5) (va_cwS 2 hts (lw_S q1254 q1255 q94 q1256) rfl rfl rfl (by decide +kernel) ⟨Nat.le_of_ble_eq_true rfl, Nat.le_of_ble_eq_true rfl⟩) [] rfl rfl rfl hl.1 rfl (Nat.le_of_ble_eq_true rfl) dX9_addsPerson_77 ⟨Nat.le_of_ble_eq_true rfl, Nat.le_of_ble_eq_true rfl⟩) cx hw [] rfl rfl rfl (ws' := WM g a (upd (upd (upd (upd (upd s (5 + 7 * nN s) (nu 0)) (5 + 7 * nN s + 1) (nu 1)) (5 + 7 * nN s + 2) (nu 2)) (5 + 7 * (nN s) + 3) 5) (5 + 7 * (nN s) + 4) 0) m im wa L R rf nu hi lm rn pl sd) (rfl) (fun H locs hw => ?_)
        refine W.eq (g2 := F0 m9 80 ls [.int (nI (5 + 7 * (nN s) + 5)), .ref (a 1)]) rfl ?_
        refine lv_iconst (v := 0) hx hb dX9_addsPerson_80 (by decide) ?_
        refine r_iast cx hw 1 rfl (5 + 7 * (nN s) + 5) rfl (by omega) (Nat.le_of_ble_eq_true rfl) dX9_addsPerson_81 (fun H locs hw => ?_)
        have hw : WS g A9 s9.heap (WM g a (upd (upd (upd (upd (upd (upd s (5 + 7 * nN s) (nu 0)) (5 + 7 * nN s + 1) (nu 1)) (5 + 7 * nN s + 2) (nu 2)) (5 + 7 * (nN s) + 3) 5) (5 + 7 * (nN s) + 4) 0) (5 + 7 * (nN s) + 5) 0) m im wa L R rf nu hi lm rn pl sd) H locs := hw
        refine lv_aload_n hx hb dX9_addsPerson_82 rfl (lv_at hl 0 rfl) ?_
        refine r_get cx hw in_X9 0 (ci := 8) (T := TX9) (N := 13) rfl rfl 0 (by decide) q1169 (fun _ h9 => h9) rfl dX9_addsPerson_83 ?_
        refine lv_iload_n hx hb dX9_addsPerson_86 rfl (lv_at hl 1 rfl) ?_
        refine lv_bipush (v := 6) hx hb dX9_addsPerson_87 (by decide) ?_
        refine r_det (r_S cx hw (kX9_of l hl9 g (nN s) 6) (va_cwS 2 hts (lw_S q1254 q1255 q94 q1256) rfl rfl rfl (by decide +kernel) ⟨Nat.le_of_ble_eq_true rfl, Nat.le_of_ble_eq_true rfl⟩) [] rfl rfl rfl hl.1 rfl (Nat.le_of_ble_eq_true rfl) dX9_addsPerson_89 ⟨Nat.le_of_ble_eq_true rfl, Nat.le_of_ble_eq_true rfl⟩) cx hw [] rfl rfl rfl (ws' := WM g a (upd (upd (upd (upd (upd (upd s (5 + 7 * nN s) (nu 0)) (5 + 7 * nN s + 1) (nu 1)) (5 + 7 * nN s + 2) (nu 2)) (5 + 7 * (nN s) + 3) 5) (5 + 7 * (nN s) + 4) 0) (5 + 7 * (nN s) + 5) 0) m im wa L R rf nu hi lm rn pl sd) (rfl) (fun H locs hw => ?_)
        refine W.eq (g2 := F0 m9 92 ls [.int (nI (5 + 7 * (nN s) + 6)), .ref (a 1)]) rfl ?_
        refine lv_iload_n hx hb dX9_addsPerson_92 rfl (lv_at hl 1 rfl) ?_
        refine r_iast cx hw 1 rfl (5 + 7 * (nN s) + 6) rfl (by omega) (Nat.le_of_ble_eq_true rfl) dX9_addsPerson_93 (fun H locs hw => ?_)
        have hw : WS g A9 s9.heap (WM g a (upd (upd (upd (upd (upd (upd (upd s (5 + 7 * nN s) (nu 0)) (5 + 7 * nN s + 1) (nu 1)) (5 + 7 * nN s + 2) (nu 2)) (5 + 7 * (nN s) + 3) 5) (5 + 7 * (nN s) + 4) 0) (5 + 7 * (nN s) + 5) 0) (5 + 7 * (nN s) + 6) (nI (nN s))) m im wa L R rf nu hi lm rn pl sd) H locs := hw
        refine lv_aload_n hx hb dX9_addsPerson_94 rfl (lv_at hl 0 rfl) ?_
        refine r_get cx hw in_X9 0 (ci := 8) (T := TX9) (N := 13) rfl rfl 0 (by decide) q1169 (fun _ h9 => h9) rfl dX9_addsPerson_95 ?_
        refine lv_iconst (v := 0) hx hb dX9_addsPerson_98 (by decide) ?_
        refine lv_dup2_11 hx hb dX9_addsPerson_99 rfl rfl ?_
        refine r_iald cx hw 1 rfl 0 rfl (by omega) (Nat.le_of_ble_eq_true rfl) dX9_addsPerson_100 ?_
        refine r_topi (x' := s 0) (by rw [upd_n (by omega), upd_n (by omega), upd_n (by omega), upd_n (by omega), upd_n (by omega), upd_n (by omega), upd_n (by omega)]) ?_
        refine lv_iconst (v := 1) hx hb dX9_addsPerson_101 (by decide) ?_
        refine lv_iadd hx hb dX9_addsPerson_102 ?_
        refine r_iast cx hw 1 rfl 0 rfl (by omega) (Nat.le_of_ble_eq_true rfl) dX9_addsPerson_103 (fun H locs hw => ?_)
        have hw : WS g A9 s9.heap (WM g a (upd (upd (upd (upd (upd (upd (upd (upd s (5 + 7 * nN s) (nu 0)) (5 + 7 * nN s + 1) (nu 1)) (5 + 7 * nN s + 2) (nu 2)) (5 + 7 * (nN s) + 3) 5) (5 + 7 * (nN s) + 4) 0) (5 + 7 * (nN s) + 5) 0) (5 + 7 * (nN s) + 6) (nI (nN s))) 0 ((s 0) + 1)) m im wa L R rf nu hi lm rn pl sd) H locs := hw
        refine lv_iconst (v := 1) hx hb dX9_addsPerson_104 (by decide) ?_
        exact r_zret (by decide) cx hw (⟨_, fun _ => rfl, by rw [decide_eq_false c_8]; rfl, rfl⟩) (Nat.le_of_ble_eq_true rfl) (Nat.le_of_ble_eq_true rfl) dX9_addsPerson_105
      · skip
        have c_24 : j < 3 := Nat.not_le.mp (fun h9 => c_24 ((nI_leI (a := 3) (b := j) (by omega) (by omega)).mpr h9))
        refine lv_aload_n hx hb dX9_addsPerson_27 rfl (lv_at hl 0 rfl) ?_
        refine r_get cx hw in_X9 0 (ci := 8) (T := TX9) (N := 13) rfl rfl 0 (by decide) q1169 (fun _ h9 => h9) rfl dX9_addsPerson_28 ?_
        refine lv_iload_n hx hb dX9_addsPerson_31 rfl (lv_at hl 1 rfl) ?_
        refine lv_iload_n hx hb dX9_addsPerson_32 rfl (lv_at hl 2 rfl) ?_
        refine r_det (r_S cx hw (kX9_of l hl9 g (nN s) j) (va_cwS 2 hts (lw_S q1254 q1255 q94 q1256) rfl rfl rfl (by decide +kernel) ⟨Nat.le_of_ble_eq_true rfl, Nat.le_of_ble_eq_true rfl⟩) [] rfl rfl rfl hl.1 rfl (Nat.le_of_ble_eq_true rfl) dX9_addsPerson_33 ⟨Nat.le_of_ble_eq_true rfl, Nat.le_of_ble_eq_true rfl⟩) cx hw [] rfl rfl rfl (ws' := WM g a (itr (fun j x => upd x (5 + 7 * nN s + j) (nu j)) j s) m im wa L R rf nu hi lm rn pl sd) (rfl) (fun H locs hw => ?_)
        refine W.eq (g2 := F0 m9 36 ls [.int (nI (5 + 7 * (nN s) + j)), .ref (a 1)]) rfl ?_
        refine lv_aload_n hx hb dX9_addsPerson_36 rfl (lv_at hl 0 rfl) ?_
        refine r_get cx hw in_X9 0 (ci := 8) (T := TX9) (N := 13) rfl rfl 11 (by decide) q1180 (fun _ h9 => h9) rfl dX9_addsPerson_37 ?_
        refine lv_iload_n hx hb dX9_addsPerson_40 rfl (lv_at hl 2 rfl) ?_
        refine r_iald cx hw 8 rfl j rfl (by omega) (Nat.le_of_ble_eq_true rfl) dX9_addsPerson_41 ?_
        refine r_iast cx hw 1 rfl (5 + 7 * (nN s) + j) rfl (by omega) (Nat.le_of_ble_eq_true rfl) dX9_addsPerson_42 (fun H locs hw => ?_)
        have hw : WS g A9 s9.heap (WM g a (upd (itr (fun j x => upd x (5 + 7 * nN s + j) (nu j)) j s) (5 + 7 * (nN s) + j) (nu j)) m im wa L R rf nu hi lm rn pl sd) H locs := hw
        refine lv_iinc (v := nI (j + 1)) (lv' := [(2, .int (nI (j + 1))), (0, .ref (a 0)), (1, .int (nI (nN s)))]) hx hb dX9_addsPerson_43 hl (k := 2) rfl (nI_1 j) (by decide) rfl (fun ls hl => ?_)
        refine lv_goto (tgt := 22) hx hb dX9_addsPerson_46 (by decide) ?_
        exact ih_J (j + 1)  (by omega) (by omega) hN6 c_8 _ _ _ (hw) (lv_sub hl [1, 2, 0] rfl)
  refine lv_aload_n hx hb dX9_addsPerson_0 rfl (lv_at hl 0 rfl) ?_
  refine r_get cx hw in_X9 0 (ci := 8) (T := TX9) (N := 13) rfl rfl 0 (by decide) q1169 (fun _ h9 => h9) rfl dX9_addsPerson_1 ?_
  refine lv_iconst (v := 0) hx hb dX9_addsPerson_4 (by decide) ?_
  refine r_iald cx hw 1 rfl 0 rfl (by omega) (Nat.le_of_ble_eq_true rfl) dX9_addsPerson_5 ?_
  refine lv_bipush (v := 6) hx hb dX9_addsPerson_6 (by decide) ?_
  refine lv_icmp_ne (tgt := 13) hx hb dX9_addsPerson_8 (by decide) (fun c_8 => ?_) (fun c_8 => ?_)
  · skip
    have hN6 := nN_6 hI c_8
    refine lv_aload_n hx hb dX9_addsPerson_13 rfl (lv_at hl 0 rfl) ?_
    refine r_get cx hw in_X9 0 (ci := 8) (T := TX9) (N := 13) rfl rfl 0 (by decide) q1169 (fun _ h9 => h9) rfl dX9_addsPerson_14 ?_
    refine lv_iconst (v := 0) hx hb dX9_addsPerson_17 (by decide) ?_
    refine r_iald cx hw 1 rfl 0 rfl (by omega) (Nat.le_of_ble_eq_true rfl) dX9_addsPerson_18 ?_
    refine r_topi (x' := nI (nN s)) (hI.2.1) ?_
    refine lv_istore_n (lv' := [(1, .int (nI (nN s))), (0, .ref (a 0))]) hx hb dX9_addsPerson_19 rfl hl (by decide) rfl (fun ls hl => ?_)
    refine lv_iconst (v := 0) hx hb dX9_addsPerson_20 (by decide) ?_
    refine lv_istore_n (lv' := [(2, .int 0), (1, .int (nI (nN s))), (0, .ref (a 0))]) hx hb dX9_addsPerson_21 rfl hl (by decide) rfl (fun ls hl => ?_)
    exact J (3 + 1) 0  (by omega) (by omega) hN6 c_8 _ _ _ (hw) (lv_sub hl [2, 1, 0] rfl)
  · skip
    refine lv_iconst (v := 0) hx hb dX9_addsPerson_11 (by decide) ?_
    exact r_zret (by decide) cx hw (⟨s, fun h9 => absurd c_8 h9, by rw [decide_eq_true c_8]; rfl, rfl⟩) (Nat.le_of_ble_eq_true rfl) (Nat.le_of_ble_eq_true rfl) dX9_addsPerson_12

set_option maxHeartbeats 4000000 in
set_option maxRecDepth 100000 in
theorem kX9_isDone (l : Launch) (hl9 : l.stackTraces = false) (g : GG) (a : Nat → Nat) (s m im wa L R rf nu : Nat → Int32) (hi lm rn pl sd : Int32) (hI : InvM s) (c : Int32) : MC l yX9_isDone cX9_isDone 4 (some .boolean) 5 111 0 0 g [.ref (a 0), .int c] (WM g a s m im wa L R rf nu hi lm rn pl sd) (rtP (α := Nat → Int32) (fun x9 => doB s c (nu 0) (nu 1) = true → x9 = doS s c (nu 0) (nu 1) (nu 2)) (some (.int (bI (doB s c (nu 0) (nu 1))))) (fun x9 => WM g a x9 m im wa L R rf nu hi lm rn pl sd)) (noX) := by
  refine MC.of (by decide) (Nat.le_of_ble_eq_true rfl) ?_
  intro p9 e9 s9 m9 args9 below9 meth9 c9 A9 ls cx htab hw hl
  have hx := cx.1
  have hb := cx.2.1
  have hts := cx.2.2.2.2.1
  have hK := cx.2.2.2.2.2.2.2.1
  have hl : lv_has ls 4 [(0, .ref (a 0)), (1, .int c)] := hl
  refine lv_aload_n hx hb dX9_isDone_0 rfl (lv_at hl 0 rfl) ?_
  refine r_get cx hw in_X9 0 (ci := 8) (T := TX9) (N := 13) rfl rfl 11 (by decide) q1180 (fun _ h9 => h9) rfl dX9_isDone_1 ?_
  refine lv_iconst (v := 0) hx hb dX9_isDone_4 (by decide) ?_
  refine r_iald cx hw 8 rfl 0 rfl (by omega) (Nat.le_of_ble_eq_true rfl) dX9_isDone_5 ?_
  refine lv_istore_n (lv' := [(2, .int (nu 0)), (0, .ref (a 0)), (1, .int c)]) hx hb dX9_isDone_6 rfl hl (by decide) rfl (fun ls hl => ?_)
  refine lv_aload_n hx hb dX9_isDone_7 rfl (lv_at hl 1 rfl) ?_
  refine r_get cx hw in_X9 0 (ci := 8) (T := TX9) (N := 13) rfl rfl 11 (by decide) q1180 (fun _ h9 => h9) rfl dX9_isDone_8 ?_
  refine lv_iconst (v := 1) hx hb dX9_isDone_11 (by decide) ?_
  refine r_iald cx hw 8 rfl 1 rfl (by omega) (Nat.le_of_ble_eq_true rfl) dX9_isDone_12 ?_
  refine lv_istore_n (lv' := [(3, .int (nu 1)), (2, .int (nu 0)), (0, .ref (a 0)), (1, .int c)]) hx hb dX9_isDone_13 rfl hl (by decide) rfl (fun ls hl => ?_)
  refine lv_iload_n hx hb dX9_isDone_14 rfl (lv_at hl 3 rfl) ?_
  by_cases t_15_102 : c = 102
  · skip
    refine lv_tableIn (tgt := 105) hx hb dX9_isDone_15 (by rw [t_15_102]; decide) (by rw [t_15_102]; decide) (by rw [t_15_102]; rfl) (by decide) ?_
    refine lv_aload_n hx hb dX9_isDone_105 rfl (lv_at hl 2 rfl) ?_
    refine lv_iload_n hx hb dX9_isDone_106 rfl (lv_at hl 1 rfl) ?_
    refine r_det (r_V cx hw (kX9_isPerson l hl9 g a s m im wa L R rf nu hi lm rn pl sd (nu 0)) (cwV 1 hts (lw_V q1257 q1259 qs72 q94 q1260) rfl rfl rfl (by decide +kernel) ⟨Nat.le_of_ble_eq_true rfl, Nat.le_of_ble_eq_true rfl⟩) (r_recv hK hw (k := 0) (ci := 8) rfl rfl) [0, 1, 2, 3, 4, 5, 6, 7, 8] rfl rfl rfl hl.1 rfl (Nat.le_of_ble_eq_true rfl) dX9_isDone_107 ⟨Nat.le_of_ble_eq_true rfl, Nat.le_of_ble_eq_true rfl⟩) cx hw [0, 1, 2, 3, 4, 5, 6, 7, 8] rfl rfl WM_adr (ws' := WM g a s m im wa L R rf nu hi lm rn pl sd) (rfl) (fun H locs hw => ?_)
    refine W.eq (g2 := F0 m9 110 ls [.int (bI (psB s (nu 0)))]) rfl ?_
    refine lv_if_eq (tgt := 119) hx hb dX9_isDone_110 (by decide) (fun c_110 => ?_) (fun c_110 => ?_)
    · skip
      have c_110 := bI_e0 c_110
      refine lv_iconst (v := 0) hx hb dX9_isDone_119 (by decide) ?_
      have hb9 : doB s c (nu 0) (nu 1) = false := by simp [doB, t_15_102, c_110]
      exact r_zret (by decide) cx hw (⟨_, fun h9 => absurd h9 (by rw [hb9]; decide), by rw [hb9]; rfl, rfl⟩) (Nat.le_of_ble_eq_true rfl) (Nat.le_of_ble_eq_true rfl) dX9_isDone_120
    · skip
      have c_110 := bI_n0 c_110
      obtain ⟨q, hq, eq⟩ := psB_rng hI c_110
      have hN := hI.1
      have tq : tN (nu 0) = q := by rw [eq]; exact tN_nI (by omega)
      refine lv_iload_n hx hb dX9_isDone_113 rfl (lv_at hl 0 rfl) ?_
      refine lv_bipush (v := 6) hx hb dX9_isDone_114 (by decide) ?_
      refine lv_icmp_lt (tgt := 121) hx hb dX9_isDone_116 (by decide) (fun c_116 => ?_) (fun c_116 => ?_)
      · skip
        refine lv_aload_n hx hb dX9_isDone_121 rfl (lv_at hl 2 rfl) ?_
        refine r_get cx hw in_X9 0 (ci := 8) (T := TX9) (N := 13) rfl rfl 0 (by decide) q1169 (fun _ h9 => h9) rfl dX9_isDone_122 ?_
        refine lv_iload_n hx hb dX9_isDone_125 rfl (lv_at hl 1 rfl) ?_
        refine r_topi (x' := nI q) (eq) ?_
        refine lv_bipush (v := 6) hx hb dX9_isDone_126 (by decide) ?_
        refine r_det (r_S cx hw (kX9_of l hl9 g q 6) (va_cwS 2 hts (lw_S q1254 q1255 q94 q1256) rfl rfl rfl (by decide +kernel) ⟨Nat.le_of_ble_eq_true rfl, Nat.le_of_ble_eq_true rfl⟩) [] rfl rfl rfl hl.1 rfl (Nat.le_of_ble_eq_true rfl) dX9_isDone_128 ⟨Nat.le_of_ble_eq_true rfl, Nat.le_of_ble_eq_true rfl⟩) cx hw [] rfl rfl rfl (ws' := WM g a s m im wa L R rf nu hi lm rn pl sd) (rfl) (fun H locs hw => ?_)
        refine W.eq (g2 := F0 m9 131 ls [.int (nI (5 + 7 * q + 6)), .ref (a 1)]) rfl ?_
        refine lv_iload_n hx hb dX9_isDone_131 rfl (lv_at hl 0 rfl) ?_
        refine r_iast cx hw 1 rfl (5 + 7 * q + 6) rfl (by omega) (Nat.le_of_ble_eq_true rfl) dX9_isDone_132 (fun H locs hw => ?_)
        have hw : WS g A9 s9.heap (WM g a (upd s (5 + 7 * q + 6) (nu 1)) m im wa L R rf nu hi lm rn pl sd) H locs := hw
        refine lv_iconst (v := 1) hx hb dX9_isDone_133 (by decide) ?_
        have hb9 : doB s c (nu 0) (nu 1) = true := by simp [doB, t_15_102, c_110, c_116]
        exact r_zret (by decide) cx hw (⟨_, fun _ => by simp [doS, t_15_102, tq], by rw [hb9]; rfl, rfl⟩) (Nat.le_of_ble_eq_true rfl) (Nat.le_of_ble_eq_true rfl) dX9_isDone_134
      · skip
        refine lv_iconst (v := 0) hx hb dX9_isDone_119 (by decide) ?_
        have hb9 : doB s c (nu 0) (nu 1) = false := by simp [doB, t_15_102, c_110, c_116]
        exact r_zret (by decide) cx hw (⟨_, fun h9 => absurd h9 (by rw [hb9]; decide), by rw [hb9]; rfl, rfl⟩) (Nat.le_of_ble_eq_true rfl) (Nat.le_of_ble_eq_true rfl) dX9_isDone_120
  by_cases t_15_103 : c = 103
  · skip
    refine lv_tableIn (tgt := 135) hx hb dX9_isDone_15 (by rw [t_15_103]; decide) (by rw [t_15_103]; decide) (by rw [t_15_103]; rfl) (by decide) ?_
    refine lv_aload_n hx hb dX9_isDone_135 rfl (lv_at hl 2 rfl) ?_
    refine lv_iload_n hx hb dX9_isDone_136 rfl (lv_at hl 1 rfl) ?_
    refine r_det (r_V cx hw (kX9_isPerson l hl9 g a s m im wa L R rf nu hi lm rn pl sd (nu 0)) (cwV 1 hts (lw_V q1257 q1259 qs72 q94 q1260) rfl rfl rfl (by decide +kernel) ⟨Nat.le_of_ble_eq_true rfl, Nat.le_of_ble_eq_true rfl⟩) (r_recv hK hw (k := 0) (ci := 8) rfl rfl) [0, 1, 2, 3, 4, 5, 6, 7, 8] rfl rfl rfl hl.1 rfl (Nat.le_of_ble_eq_true rfl) dX9_isDone_137 ⟨Nat.le_of_ble_eq_true rfl, Nat.le_of_ble_eq_true rfl⟩) cx hw [0, 1, 2, 3, 4, 5, 6, 7, 8] rfl rfl WM_adr (ws' := WM g a s m im wa L R rf nu hi lm rn pl sd) (rfl) (fun H locs hw => ?_)
    refine W.eq (g2 := F0 m9 140 ls [.int (bI (psB s (nu 0)))]) rfl ?_
    refine lv_if_ne (tgt := 145) hx hb dX9_isDone_140 (by decide) (fun c_140 => ?_) (fun c_140 => ?_)
    · skip
      have c_140 := bI_n0 c_140
      obtain ⟨q, hq, eq⟩ := psB_rng hI c_140
      have hN := hI.1
      have tq : tN (nu 0) = q := by rw [eq]; exact tN_nI (by omega)
      refine lv_aload_n hx hb dX9_isDone_145 rfl (lv_at hl 2 rfl) ?_
      refine r_get cx hw in_X9 0 (ci := 8) (T := TX9) (N := 13) rfl rfl 0 (by decide) q1169 (fun _ h9 => h9) rfl dX9_isDone_146 ?_
      refine lv_iload_n hx hb dX9_isDone_149 rfl (lv_at hl 1 rfl) ?_
      refine r_topi (x' := nI q) (eq) ?_
      refine lv_iconst (v := 3) hx hb dX9_isDone_150 (by decide) ?_
      refine r_det (r_S cx hw (kX9_of l hl9 g q 3) (va_cwS 2 hts (lw_S q1254 q1255 q94 q1256) rfl rfl rfl (by decide +kernel) ⟨Nat.le_of_ble_eq_true rfl, Nat.le_of_ble_eq_true rfl⟩) [] rfl rfl rfl hl.1 rfl (Nat.le_of_ble_eq_true rfl) dX9_isDone_151 ⟨Nat.le_of_ble_eq_true rfl, Nat.le_of_ble_eq_true rfl⟩) cx hw [] rfl rfl rfl (ws' := WM g a s m im wa L R rf nu hi lm rn pl sd) (rfl) (fun H locs hw => ?_)
      refine W.eq (g2 := F0 m9 154 ls [.int (nI (5 + 7 * q + 3)), .ref (a 1)]) rfl ?_
      refine lv_iload_n hx hb dX9_isDone_154 rfl (lv_at hl 0 rfl) ?_
      refine r_iast cx hw 1 rfl (5 + 7 * q + 3) rfl (by omega) (Nat.le_of_ble_eq_true rfl) dX9_isDone_155 (fun H locs hw => ?_)
      have hw : WS g A9 s9.heap (WM g a (upd s (5 + 7 * q + 3) (nu 1)) m im wa L R rf nu hi lm rn pl sd) H locs := hw
      refine lv_iconst (v := 1) hx hb dX9_isDone_156 (by decide) ?_
      have hb9 : doB s c (nu 0) (nu 1) = true := by simp [doB, t_15_103, t_15_102, c_140]
      exact r_zret (by decide) cx hw (⟨_, fun _ => by simp [doS, t_15_103, t_15_102, tq], by rw [hb9]; rfl, rfl⟩) (Nat.le_of_ble_eq_true rfl) (Nat.le_of_ble_eq_true rfl) dX9_isDone_157
    · skip
      have c_140 := bI_e0 c_140
      refine lv_iconst (v := 0) hx hb dX9_isDone_143 (by decide) ?_
      have hb9 : doB s c (nu 0) (nu 1) = false := by simp [doB, t_15_103, t_15_102, c_140]
      exact r_zret (by decide) cx hw (⟨_, fun h9 => absurd h9 (by rw [hb9]; decide), by rw [hb9]; rfl, rfl⟩) (Nat.le_of_ble_eq_true rfl) (Nat.le_of_ble_eq_true rfl) dX9_isDone_144
  by_cases t_15_104 : c = 104
  · skip
    refine lv_tableIn (tgt := 209) hx hb dX9_isDone_15 (by rw [t_15_104]; decide) (by rw [t_15_104]; decide) (by rw [t_15_104]; rfl) (by decide) ?_
    refine lv_iload_n hx hb dX9_isDone_209 rfl (lv_at hl 1 rfl) ?_
    refine lv_iconst (v := 1) hx hb dX9_isDone_210 (by decide) ?_
    refine lv_bipush (v := 60) hx hb dX9_isDone_211 (by decide) ?_
    refine r_det (r_S cx hw (kX9_isIn l hl9 g (nu 0) 1 60) (va_cwS 3 hts (lw_S q1240 q1241 q94 q1242) rfl rfl rfl (by decide +kernel) ⟨Nat.le_of_ble_eq_true rfl, Nat.le_of_ble_eq_true rfl⟩) [] rfl rfl rfl hl.1 rfl (Nat.le_of_ble_eq_true rfl) dX9_isDone_213 ⟨Nat.le_of_ble_eq_true rfl, Nat.le_of_ble_eq_true rfl⟩) cx hw [] rfl rfl rfl (ws' := WM g a s m im wa L R rf nu hi lm rn pl sd) (rfl) (fun H locs hw => ?_)
    refine W.eq (g2 := F0 m9 216 ls [.int (bI (isInB (nu 0) 1 60))]) rfl ?_
    refine lv_if_eq (tgt := 233) hx hb dX9_isDone_216 (by decide) (fun c_216 => ?_) (fun c_216 => ?_)
    · skip
      have c_216 := bI_e0 c_216
      refine lv_iconst (v := 0) hx hb dX9_isDone_233 (by decide) ?_
      have hb9 : doB s c (nu 0) (nu 1) = false := by simp [doB, t_15_104, t_15_102, t_15_103, c_216]
      exact r_zret (by decide) cx hw (⟨_, fun h9 => absurd h9 (by rw [hb9]; decide), by rw [hb9]; rfl, rfl⟩) (Nat.le_of_ble_eq_true rfl) (Nat.le_of_ble_eq_true rfl) dX9_isDone_234
    · skip
      have c_216 := bI_n0 c_216
      obtain ⟨q, hq, eq⟩ : ∃ q9 : Nat, q9 ≤ 60 ∧ nu 0 = nI q9 := by
        have h9 := c_216
        simp only [isInB, Bool.and_eq_true, decide_eq_true_eq] at h9
        exact nI_rng (M := 60) (by decide) (Int32.le_trans (by decide) h9.1) h9.2
      have tq : tN (nu 0) = q := by rw [eq]; exact tN_nI (by omega)
      refine lv_aload_n hx hb dX9_isDone_219 rfl (lv_at hl 2 rfl) ?_
      refine r_get cx hw in_X9 0 (ci := 8) (T := TX9) (N := 13) rfl rfl 0 (by decide) q1169 (fun _ h9 => h9) rfl dX9_isDone_220 ?_
      refine lv_iconst (v := 1) hx hb dX9_isDone_223 (by decide) ?_
      refine r_iald cx hw 1 rfl 1 rfl (by omega) (Nat.le_of_ble_eq_true rfl) dX9_isDone_224 ?_
      refine lv_iload_n hx hb dX9_isDone_225 rfl (lv_at hl 1 rfl) ?_
      refine lv_iadd hx hb dX9_isDone_226 ?_
      refine lv_sipush (v := 999) hx hb dX9_isDone_227 (by decide) ?_
      refine lv_icmp_le (tgt := 235) hx hb dX9_isDone_230 (by decide) (fun c_230 => ?_) (fun c_230 => ?_)
      · skip
        refine lv_aload_n hx hb dX9_isDone_235 rfl (lv_at hl 2 rfl) ?_
        refine r_get cx hw in_X9 0 (ci := 8) (T := TX9) (N := 13) rfl rfl 0 (by decide) q1169 (fun _ h9 => h9) rfl dX9_isDone_236 ?_
        refine lv_iload_n hx hb dX9_isDone_239 rfl (lv_at hl 1 rfl) ?_
        refine r_topi (x' := nI q) (eq) ?_
        refine r_det (r_S cx hw (kX9_hoursOn l hl9 g (a 1) s hI q (by omega)) (va_cwS 2 hts (lw_S q1261 q1262 q94 q1263) rfl rfl rfl (by decide +kernel) ⟨Nat.le_of_ble_eq_true rfl, Nat.le_of_ble_eq_true rfl⟩) [1] rfl rfl rfl hl.1 rfl (Nat.le_of_ble_eq_true rfl) dX9_isDone_240 ⟨Nat.le_of_ble_eq_true rfl, Nat.le_of_ble_eq_true rfl⟩) cx hw [1] rfl rfl rfl (ws' := WM g a (hoursF s q) m im wa L R rf nu hi lm rn pl sd) (rfl) (fun H locs hw => ?_)
        refine W.eq (g2 := F0 m9 243 ls []) rfl ?_
        refine lv_iconst (v := 1) hx hb dX9_isDone_243 (by decide) ?_
        have hb9 : doB s c (nu 0) (nu 1) = true := by simp [doB, t_15_104, t_15_102, t_15_103, c_216, c_230]
        exact r_zret (by decide) cx hw (⟨_, fun _ => by simp [doS, t_15_104, t_15_102, t_15_103, tq], by rw [hb9]; rfl, rfl⟩) (Nat.le_of_ble_eq_true rfl) (Nat.le_of_ble_eq_true rfl) dX9_isDone_244
      · skip
        refine lv_iconst (v := 0) hx hb dX9_isDone_233 (by decide) ?_
        have hb9 : doB s c (nu 0) (nu 1) = false := by simp [doB, t_15_104, t_15_102, t_15_103, c_216, c_230]
        exact r_zret (by decide) cx hw (⟨_, fun h9 => absurd h9 (by rw [hb9]; decide), by rw [hb9]; rfl, rfl⟩) (Nat.le_of_ble_eq_true rfl) (Nat.le_of_ble_eq_true rfl) dX9_isDone_234
  by_cases t_15_105 : c = 105
  · skip
    refine lv_tableIn (tgt := 209) hx hb dX9_isDone_15 (by rw [t_15_105]; decide) (by rw [t_15_105]; decide) (by rw [t_15_105]; rfl) (by decide) ?_
    refine lv_iload_n hx hb dX9_isDone_209 rfl (lv_at hl 1 rfl) ?_
    refine lv_iconst (v := 1) hx hb dX9_isDone_210 (by decide) ?_
    refine lv_bipush (v := 60) hx hb dX9_isDone_211 (by decide) ?_
    refine r_det (r_S cx hw (kX9_isIn l hl9 g (nu 0) 1 60) (va_cwS 3 hts (lw_S q1240 q1241 q94 q1242) rfl rfl rfl (by decide +kernel) ⟨Nat.le_of_ble_eq_true rfl, Nat.le_of_ble_eq_true rfl⟩) [] rfl rfl rfl hl.1 rfl (Nat.le_of_ble_eq_true rfl) dX9_isDone_213 ⟨Nat.le_of_ble_eq_true rfl, Nat.le_of_ble_eq_true rfl⟩) cx hw [] rfl rfl rfl (ws' := WM g a s m im wa L R rf nu hi lm rn pl sd) (rfl) (fun H locs hw => ?_)
    refine W.eq (g2 := F0 m9 216 ls [.int (bI (isInB (nu 0) 1 60))]) rfl ?_
    refine lv_if_eq (tgt := 233) hx hb dX9_isDone_216 (by decide) (fun c_216 => ?_) (fun c_216 => ?_)
    · skip
      have c_216 := bI_e0 c_216
      refine lv_iconst (v := 0) hx hb dX9_isDone_233 (by decide) ?_
      have hb9 : doB s c (nu 0) (nu 1) = false := by simp [doB, t_15_105, t_15_102, t_15_103, t_15_104, c_216]
      exact r_zret (by decide) cx hw (⟨_, fun h9 => absurd h9 (by rw [hb9]; decide), by rw [hb9]; rfl, rfl⟩) (Nat.le_of_ble_eq_true rfl) (Nat.le_of_ble_eq_true rfl) dX9_isDone_234
    · skip
      have c_216 := bI_n0 c_216
      obtain ⟨q, hq, eq⟩ : ∃ q9 : Nat, q9 ≤ 60 ∧ nu 0 = nI q9 := by
        have h9 := c_216
        simp only [isInB, Bool.and_eq_true, decide_eq_true_eq] at h9
        exact nI_rng (M := 60) (by decide) (Int32.le_trans (by decide) h9.1) h9.2
      have tq : tN (nu 0) = q := by rw [eq]; exact tN_nI (by omega)
      refine lv_aload_n hx hb dX9_isDone_219 rfl (lv_at hl 2 rfl) ?_
      refine r_get cx hw in_X9 0 (ci := 8) (T := TX9) (N := 13) rfl rfl 0 (by decide) q1169 (fun _ h9 => h9) rfl dX9_isDone_220 ?_
      refine lv_iconst (v := 1) hx hb dX9_isDone_223 (by decide) ?_
      refine r_iald cx hw 1 rfl 1 rfl (by omega) (Nat.le_of_ble_eq_true rfl) dX9_isDone_224 ?_
      refine lv_iload_n hx hb dX9_isDone_225 rfl (lv_at hl 1 rfl) ?_
      refine lv_iadd hx hb dX9_isDone_226 ?_
      refine lv_sipush (v := 999) hx hb dX9_isDone_227 (by decide) ?_
      refine lv_icmp_le (tgt := 235) hx hb dX9_isDone_230 (by decide) (fun c_230 => ?_) (fun c_230 => ?_)
      · skip
        refine lv_aload_n hx hb dX9_isDone_235 rfl (lv_at hl 2 rfl) ?_
        refine r_get cx hw in_X9 0 (ci := 8) (T := TX9) (N := 13) rfl rfl 0 (by decide) q1169 (fun _ h9 => h9) rfl dX9_isDone_236 ?_
        refine lv_iload_n hx hb dX9_isDone_239 rfl (lv_at hl 1 rfl) ?_
        refine r_topi (x' := nI q) (eq) ?_
        refine r_det (r_S cx hw (kX9_hoursOn l hl9 g (a 1) s hI q (by omega)) (va_cwS 2 hts (lw_S q1261 q1262 q94 q1263) rfl rfl rfl (by decide +kernel) ⟨Nat.le_of_ble_eq_true rfl, Nat.le_of_ble_eq_true rfl⟩) [1] rfl rfl rfl hl.1 rfl (Nat.le_of_ble_eq_true rfl) dX9_isDone_240 ⟨Nat.le_of_ble_eq_true rfl, Nat.le_of_ble_eq_true rfl⟩) cx hw [1] rfl rfl rfl (ws' := WM g a (hoursF s q) m im wa L R rf nu hi lm rn pl sd) (rfl) (fun H locs hw => ?_)
        refine W.eq (g2 := F0 m9 243 ls []) rfl ?_
        refine lv_iconst (v := 1) hx hb dX9_isDone_243 (by decide) ?_
        have hb9 : doB s c (nu 0) (nu 1) = true := by simp [doB, t_15_105, t_15_102, t_15_103, t_15_104, c_216, c_230]
        exact r_zret (by decide) cx hw (⟨_, fun _ => by simp [doS, t_15_105, t_15_102, t_15_103, t_15_104, tq], by rw [hb9]; rfl, rfl⟩) (Nat.le_of_ble_eq_true rfl) (Nat.le_of_ble_eq_true rfl) dX9_isDone_244
      · skip
        refine lv_iconst (v := 0) hx hb dX9_isDone_233 (by decide) ?_
        have hb9 : doB s c (nu 0) (nu 1) = false := by simp [doB, t_15_105, t_15_102, t_15_103, t_15_104, c_216, c_230]
        exact r_zret (by decide) cx hw (⟨_, fun h9 => absurd h9 (by rw [hb9]; decide), by rw [hb9]; rfl, rfl⟩) (Nat.le_of_ble_eq_true rfl) (Nat.le_of_ble_eq_true rfl) dX9_isDone_234
  by_cases t_15_106 : c = 106
  · skip
    refine lv_tableIn (tgt := 209) hx hb dX9_isDone_15 (by rw [t_15_106]; decide) (by rw [t_15_106]; decide) (by rw [t_15_106]; rfl) (by decide) ?_
    refine lv_iload_n hx hb dX9_isDone_209 rfl (lv_at hl 1 rfl) ?_
    refine lv_iconst (v := 1) hx hb dX9_isDone_210 (by decide) ?_
    refine lv_bipush (v := 60) hx hb dX9_isDone_211 (by decide) ?_
    refine r_det (r_S cx hw (kX9_isIn l hl9 g (nu 0) 1 60) (va_cwS 3 hts (lw_S q1240 q1241 q94 q1242) rfl rfl rfl (by decide +kernel) ⟨Nat.le_of_ble_eq_true rfl, Nat.le_of_ble_eq_true rfl⟩) [] rfl rfl rfl hl.1 rfl (Nat.le_of_ble_eq_true rfl) dX9_isDone_213 ⟨Nat.le_of_ble_eq_true rfl, Nat.le_of_ble_eq_true rfl⟩) cx hw [] rfl rfl rfl (ws' := WM g a s m im wa L R rf nu hi lm rn pl sd) (rfl) (fun H locs hw => ?_)
    refine W.eq (g2 := F0 m9 216 ls [.int (bI (isInB (nu 0) 1 60))]) rfl ?_
    refine lv_if_eq (tgt := 233) hx hb dX9_isDone_216 (by decide) (fun c_216 => ?_) (fun c_216 => ?_)
    · skip
      have c_216 := bI_e0 c_216
      refine lv_iconst (v := 0) hx hb dX9_isDone_233 (by decide) ?_
      have hb9 : doB s c (nu 0) (nu 1) = false := by simp [doB, t_15_106, t_15_102, t_15_103, t_15_104, t_15_105, c_216]
      exact r_zret (by decide) cx hw (⟨_, fun h9 => absurd h9 (by rw [hb9]; decide), by rw [hb9]; rfl, rfl⟩) (Nat.le_of_ble_eq_true rfl) (Nat.le_of_ble_eq_true rfl) dX9_isDone_234
    · skip
      have c_216 := bI_n0 c_216
      obtain ⟨q, hq, eq⟩ : ∃ q9 : Nat, q9 ≤ 60 ∧ nu 0 = nI q9 := by
        have h9 := c_216
        simp only [isInB, Bool.and_eq_true, decide_eq_true_eq] at h9
        exact nI_rng (M := 60) (by decide) (Int32.le_trans (by decide) h9.1) h9.2
      have tq : tN (nu 0) = q := by rw [eq]; exact tN_nI (by omega)
      refine lv_aload_n hx hb dX9_isDone_219 rfl (lv_at hl 2 rfl) ?_
      refine r_get cx hw in_X9 0 (ci := 8) (T := TX9) (N := 13) rfl rfl 0 (by decide) q1169 (fun _ h9 => h9) rfl dX9_isDone_220 ?_
      refine lv_iconst (v := 1) hx hb dX9_isDone_223 (by decide) ?_
      refine r_iald cx hw 1 rfl 1 rfl (by omega) (Nat.le_of_ble_eq_true rfl) dX9_isDone_224 ?_
      refine lv_iload_n hx hb dX9_isDone_225 rfl (lv_at hl 1 rfl) ?_
      refine lv_iadd hx hb dX9_isDone_226 ?_
      refine lv_sipush (v := 999) hx hb dX9_isDone_227 (by decide) ?_
      refine lv_icmp_le (tgt := 235) hx hb dX9_isDone_230 (by decide) (fun c_230 => ?_) (fun c_230 => ?_)
      · skip
        refine lv_aload_n hx hb dX9_isDone_235 rfl (lv_at hl 2 rfl) ?_
        refine r_get cx hw in_X9 0 (ci := 8) (T := TX9) (N := 13) rfl rfl 0 (by decide) q1169 (fun _ h9 => h9) rfl dX9_isDone_236 ?_
        refine lv_iload_n hx hb dX9_isDone_239 rfl (lv_at hl 1 rfl) ?_
        refine r_topi (x' := nI q) (eq) ?_
        refine r_det (r_S cx hw (kX9_hoursOn l hl9 g (a 1) s hI q (by omega)) (va_cwS 2 hts (lw_S q1261 q1262 q94 q1263) rfl rfl rfl (by decide +kernel) ⟨Nat.le_of_ble_eq_true rfl, Nat.le_of_ble_eq_true rfl⟩) [1] rfl rfl rfl hl.1 rfl (Nat.le_of_ble_eq_true rfl) dX9_isDone_240 ⟨Nat.le_of_ble_eq_true rfl, Nat.le_of_ble_eq_true rfl⟩) cx hw [1] rfl rfl rfl (ws' := WM g a (hoursF s q) m im wa L R rf nu hi lm rn pl sd) (rfl) (fun H locs hw => ?_)
        refine W.eq (g2 := F0 m9 243 ls []) rfl ?_
        refine lv_iconst (v := 1) hx hb dX9_isDone_243 (by decide) ?_
        have hb9 : doB s c (nu 0) (nu 1) = true := by simp [doB, t_15_106, t_15_102, t_15_103, t_15_104, t_15_105, c_216, c_230]
        exact r_zret (by decide) cx hw (⟨_, fun _ => by simp [doS, t_15_106, t_15_102, t_15_103, t_15_104, t_15_105, tq], by rw [hb9]; rfl, rfl⟩) (Nat.le_of_ble_eq_true rfl) (Nat.le_of_ble_eq_true rfl) dX9_isDone_244
      · skip
        refine lv_iconst (v := 0) hx hb dX9_isDone_233 (by decide) ?_
        have hb9 : doB s c (nu 0) (nu 1) = false := by simp [doB, t_15_106, t_15_102, t_15_103, t_15_104, t_15_105, c_216, c_230]
        exact r_zret (by decide) cx hw (⟨_, fun h9 => absurd h9 (by rw [hb9]; decide), by rw [hb9]; rfl, rfl⟩) (Nat.le_of_ble_eq_true rfl) (Nat.le_of_ble_eq_true rfl) dX9_isDone_234
  by_cases t_15_107 : c = 107
  · skip
    refine lv_tableIn (tgt := 209) hx hb dX9_isDone_15 (by rw [t_15_107]; decide) (by rw [t_15_107]; decide) (by rw [t_15_107]; rfl) (by decide) ?_
    refine lv_iload_n hx hb dX9_isDone_209 rfl (lv_at hl 1 rfl) ?_
    refine lv_iconst (v := 1) hx hb dX9_isDone_210 (by decide) ?_
    refine lv_bipush (v := 60) hx hb dX9_isDone_211 (by decide) ?_
    refine r_det (r_S cx hw (kX9_isIn l hl9 g (nu 0) 1 60) (va_cwS 3 hts (lw_S q1240 q1241 q94 q1242) rfl rfl rfl (by decide +kernel) ⟨Nat.le_of_ble_eq_true rfl, Nat.le_of_ble_eq_true rfl⟩) [] rfl rfl rfl hl.1 rfl (Nat.le_of_ble_eq_true rfl) dX9_isDone_213 ⟨Nat.le_of_ble_eq_true rfl, Nat.le_of_ble_eq_true rfl⟩) cx hw [] rfl rfl rfl (ws' := WM g a s m im wa L R rf nu hi lm rn pl sd) (rfl) (fun H locs hw => ?_)
    refine W.eq (g2 := F0 m9 216 ls [.int (bI (isInB (nu 0) 1 60))]) rfl ?_
    refine lv_if_eq (tgt := 233) hx hb dX9_isDone_216 (by decide) (fun c_216 => ?_) (fun c_216 => ?_)
    · skip
      have c_216 := bI_e0 c_216
      refine lv_iconst (v := 0) hx hb dX9_isDone_233 (by decide) ?_
      have hb9 : doB s c (nu 0) (nu 1) = false := by simp [doB, t_15_107, t_15_102, t_15_103, t_15_104, t_15_105, t_15_106, c_216]
      exact r_zret (by decide) cx hw (⟨_, fun h9 => absurd h9 (by rw [hb9]; decide), by rw [hb9]; rfl, rfl⟩) (Nat.le_of_ble_eq_true rfl) (Nat.le_of_ble_eq_true rfl) dX9_isDone_234
    · skip
      have c_216 := bI_n0 c_216
      obtain ⟨q, hq, eq⟩ : ∃ q9 : Nat, q9 ≤ 60 ∧ nu 0 = nI q9 := by
        have h9 := c_216
        simp only [isInB, Bool.and_eq_true, decide_eq_true_eq] at h9
        exact nI_rng (M := 60) (by decide) (Int32.le_trans (by decide) h9.1) h9.2
      have tq : tN (nu 0) = q := by rw [eq]; exact tN_nI (by omega)
      refine lv_aload_n hx hb dX9_isDone_219 rfl (lv_at hl 2 rfl) ?_
      refine r_get cx hw in_X9 0 (ci := 8) (T := TX9) (N := 13) rfl rfl 0 (by decide) q1169 (fun _ h9 => h9) rfl dX9_isDone_220 ?_
      refine lv_iconst (v := 1) hx hb dX9_isDone_223 (by decide) ?_
      refine r_iald cx hw 1 rfl 1 rfl (by omega) (Nat.le_of_ble_eq_true rfl) dX9_isDone_224 ?_
      refine lv_iload_n hx hb dX9_isDone_225 rfl (lv_at hl 1 rfl) ?_
      refine lv_iadd hx hb dX9_isDone_226 ?_
      refine lv_sipush (v := 999) hx hb dX9_isDone_227 (by decide) ?_
      refine lv_icmp_le (tgt := 235) hx hb dX9_isDone_230 (by decide) (fun c_230 => ?_) (fun c_230 => ?_)
      · skip
        refine lv_aload_n hx hb dX9_isDone_235 rfl (lv_at hl 2 rfl) ?_
        refine r_get cx hw in_X9 0 (ci := 8) (T := TX9) (N := 13) rfl rfl 0 (by decide) q1169 (fun _ h9 => h9) rfl dX9_isDone_236 ?_
        refine lv_iload_n hx hb dX9_isDone_239 rfl (lv_at hl 1 rfl) ?_
        refine r_topi (x' := nI q) (eq) ?_
        refine r_det (r_S cx hw (kX9_hoursOn l hl9 g (a 1) s hI q (by omega)) (va_cwS 2 hts (lw_S q1261 q1262 q94 q1263) rfl rfl rfl (by decide +kernel) ⟨Nat.le_of_ble_eq_true rfl, Nat.le_of_ble_eq_true rfl⟩) [1] rfl rfl rfl hl.1 rfl (Nat.le_of_ble_eq_true rfl) dX9_isDone_240 ⟨Nat.le_of_ble_eq_true rfl, Nat.le_of_ble_eq_true rfl⟩) cx hw [1] rfl rfl rfl (ws' := WM g a (hoursF s q) m im wa L R rf nu hi lm rn pl sd) (rfl) (fun H locs hw => ?_)
        refine W.eq (g2 := F0 m9 243 ls []) rfl ?_
        refine lv_iconst (v := 1) hx hb dX9_isDone_243 (by decide) ?_
        have hb9 : doB s c (nu 0) (nu 1) = true := by simp [doB, t_15_107, t_15_102, t_15_103, t_15_104, t_15_105, t_15_106, c_216, c_230]
        exact r_zret (by decide) cx hw (⟨_, fun _ => by simp [doS, t_15_107, t_15_102, t_15_103, t_15_104, t_15_105, t_15_106, tq], by rw [hb9]; rfl, rfl⟩) (Nat.le_of_ble_eq_true rfl) (Nat.le_of_ble_eq_true rfl) dX9_isDone_244
      · skip
        refine lv_iconst (v := 0) hx hb dX9_isDone_233 (by decide) ?_
        have hb9 : doB s c (nu 0) (nu 1) = false := by simp [doB, t_15_107, t_15_102, t_15_103, t_15_104, t_15_105, t_15_106, c_216, c_230]
        exact r_zret (by decide) cx hw (⟨_, fun h9 => absurd h9 (by rw [hb9]; decide), by rw [hb9]; rfl, rfl⟩) (Nat.le_of_ble_eq_true rfl) (Nat.le_of_ble_eq_true rfl) dX9_isDone_234
  by_cases t_15_108 : c = 108
  · skip
    refine lv_tableIn (tgt := 167) hx hb dX9_isDone_15 (by rw [t_15_108]; decide) (by rw [t_15_108]; decide) (by rw [t_15_108]; rfl) (by decide) ?_
    refine lv_aload_n hx hb dX9_isDone_167 rfl (lv_at hl 2 rfl) ?_
    refine r_get cx hw in_X9 0 (ci := 8) (T := TX9) (N := 13) rfl rfl 0 (by decide) q1169 (fun _ h9 => h9) rfl dX9_isDone_168 ?_
    refine lv_iconst (v := 3) hx hb dX9_isDone_171 (by decide) ?_
    refine lv_iload_n hx hb dX9_isDone_172 rfl (lv_at hl 1 rfl) ?_
    refine r_iast cx hw 1 rfl 3 rfl (by omega) (Nat.le_of_ble_eq_true rfl) dX9_isDone_173 (fun H locs hw => ?_)
    have hw : WS g A9 s9.heap (WM g a (upd s 3 (nu 0)) m im wa L R rf nu hi lm rn pl sd) H locs := hw
    refine lv_iload_n hx hb dX9_isDone_174 rfl (lv_at hl 1 rfl) ?_
    refine lv_bipush (v := 30) hx hb dX9_isDone_175 (by decide) ?_
    refine lv_icmp_gt (tgt := 184) hx hb dX9_isDone_177 (by decide) (fun c_177 => ?_) (fun c_177 => ?_)
    · skip
      have c_177N := Int32.not_le.mpr c_177
      refine lv_iconst (v := 0) hx hb dX9_isDone_184 (by decide) ?_
      have hb9 : doB s c (nu 0) (nu 1) = false := by simp [doB, t_15_108, t_15_102, t_15_103, t_15_104, t_15_105, t_15_106, t_15_107, c_177, c_177N]
      exact r_zret (by decide) cx hw (⟨_, fun h9 => absurd h9 (by rw [hb9]; decide), by rw [hb9]; rfl, rfl⟩) (Nat.le_of_ble_eq_true rfl) (Nat.le_of_ble_eq_true rfl) dX9_isDone_185
    · skip
      have c_177N := Int32.not_lt.mp c_177
      refine lv_iconst (v := 1) hx hb dX9_isDone_180 (by decide) ?_
      refine lv_goto (tgt := 185) hx hb dX9_isDone_181 (by decide) ?_
      have hb9 : doB s c (nu 0) (nu 1) = true := by simp [doB, t_15_108, t_15_102, t_15_103, t_15_104, t_15_105, t_15_106, t_15_107, c_177, c_177N]
      exact r_zret (by decide) cx hw (⟨_, fun _ => by simp [doS, t_15_108, t_15_102, t_15_103, t_15_104, t_15_105, t_15_106, t_15_107], by rw [hb9]; rfl, rfl⟩) (Nat.le_of_ble_eq_true rfl) (Nat.le_of_ble_eq_true rfl) dX9_isDone_185
  by_cases t_15_109 : c = 109
  · skip
    refine lv_tableIn (tgt := 209) hx hb dX9_isDone_15 (by rw [t_15_109]; decide) (by rw [t_15_109]; decide) (by rw [t_15_109]; rfl) (by decide) ?_
    refine lv_iload_n hx hb dX9_isDone_209 rfl (lv_at hl 1 rfl) ?_
    refine lv_iconst (v := 1) hx hb dX9_isDone_210 (by decide) ?_
    refine lv_bipush (v := 60) hx hb dX9_isDone_211 (by decide) ?_
    refine r_det (r_S cx hw (kX9_isIn l hl9 g (nu 0) 1 60) (va_cwS 3 hts (lw_S q1240 q1241 q94 q1242) rfl rfl rfl (by decide +kernel) ⟨Nat.le_of_ble_eq_true rfl, Nat.le_of_ble_eq_true rfl⟩) [] rfl rfl rfl hl.1 rfl (Nat.le_of_ble_eq_true rfl) dX9_isDone_213 ⟨Nat.le_of_ble_eq_true rfl, Nat.le_of_ble_eq_true rfl⟩) cx hw [] rfl rfl rfl (ws' := WM g a s m im wa L R rf nu hi lm rn pl sd) (rfl) (fun H locs hw => ?_)
    refine W.eq (g2 := F0 m9 216 ls [.int (bI (isInB (nu 0) 1 60))]) rfl ?_
    refine lv_if_eq (tgt := 233) hx hb dX9_isDone_216 (by decide) (fun c_216 => ?_) (fun c_216 => ?_)
    · skip
      have c_216 := bI_e0 c_216
      refine lv_iconst (v := 0) hx hb dX9_isDone_233 (by decide) ?_
      have hb9 : doB s c (nu 0) (nu 1) = false := by simp [doB, t_15_109, t_15_102, t_15_103, t_15_104, t_15_105, t_15_106, t_15_107, t_15_108, c_216]
      exact r_zret (by decide) cx hw (⟨_, fun h9 => absurd h9 (by rw [hb9]; decide), by rw [hb9]; rfl, rfl⟩) (Nat.le_of_ble_eq_true rfl) (Nat.le_of_ble_eq_true rfl) dX9_isDone_234
    · skip
      have c_216 := bI_n0 c_216
      obtain ⟨q, hq, eq⟩ : ∃ q9 : Nat, q9 ≤ 60 ∧ nu 0 = nI q9 := by
        have h9 := c_216
        simp only [isInB, Bool.and_eq_true, decide_eq_true_eq] at h9
        exact nI_rng (M := 60) (by decide) (Int32.le_trans (by decide) h9.1) h9.2
      have tq : tN (nu 0) = q := by rw [eq]; exact tN_nI (by omega)
      refine lv_aload_n hx hb dX9_isDone_219 rfl (lv_at hl 2 rfl) ?_
      refine r_get cx hw in_X9 0 (ci := 8) (T := TX9) (N := 13) rfl rfl 0 (by decide) q1169 (fun _ h9 => h9) rfl dX9_isDone_220 ?_
      refine lv_iconst (v := 1) hx hb dX9_isDone_223 (by decide) ?_
      refine r_iald cx hw 1 rfl 1 rfl (by omega) (Nat.le_of_ble_eq_true rfl) dX9_isDone_224 ?_
      refine lv_iload_n hx hb dX9_isDone_225 rfl (lv_at hl 1 rfl) ?_
      refine lv_iadd hx hb dX9_isDone_226 ?_
      refine lv_sipush (v := 999) hx hb dX9_isDone_227 (by decide) ?_
      refine lv_icmp_le (tgt := 235) hx hb dX9_isDone_230 (by decide) (fun c_230 => ?_) (fun c_230 => ?_)
      · skip
        refine lv_aload_n hx hb dX9_isDone_235 rfl (lv_at hl 2 rfl) ?_
        refine r_get cx hw in_X9 0 (ci := 8) (T := TX9) (N := 13) rfl rfl 0 (by decide) q1169 (fun _ h9 => h9) rfl dX9_isDone_236 ?_
        refine lv_iload_n hx hb dX9_isDone_239 rfl (lv_at hl 1 rfl) ?_
        refine r_topi (x' := nI q) (eq) ?_
        refine r_det (r_S cx hw (kX9_hoursOn l hl9 g (a 1) s hI q (by omega)) (va_cwS 2 hts (lw_S q1261 q1262 q94 q1263) rfl rfl rfl (by decide +kernel) ⟨Nat.le_of_ble_eq_true rfl, Nat.le_of_ble_eq_true rfl⟩) [1] rfl rfl rfl hl.1 rfl (Nat.le_of_ble_eq_true rfl) dX9_isDone_240 ⟨Nat.le_of_ble_eq_true rfl, Nat.le_of_ble_eq_true rfl⟩) cx hw [1] rfl rfl rfl (ws' := WM g a (hoursF s q) m im wa L R rf nu hi lm rn pl sd) (rfl) (fun H locs hw => ?_)
        refine W.eq (g2 := F0 m9 243 ls []) rfl ?_
        refine lv_iconst (v := 1) hx hb dX9_isDone_243 (by decide) ?_
        have hb9 : doB s c (nu 0) (nu 1) = true := by simp [doB, t_15_109, t_15_102, t_15_103, t_15_104, t_15_105, t_15_106, t_15_107, t_15_108, c_216, c_230]
        exact r_zret (by decide) cx hw (⟨_, fun _ => by simp [doS, t_15_109, t_15_102, t_15_103, t_15_104, t_15_105, t_15_106, t_15_107, t_15_108, tq], by rw [hb9]; rfl, rfl⟩) (Nat.le_of_ble_eq_true rfl) (Nat.le_of_ble_eq_true rfl) dX9_isDone_244
      · skip
        refine lv_iconst (v := 0) hx hb dX9_isDone_233 (by decide) ?_
        have hb9 : doB s c (nu 0) (nu 1) = false := by simp [doB, t_15_109, t_15_102, t_15_103, t_15_104, t_15_105, t_15_106, t_15_107, t_15_108, c_216, c_230]
        exact r_zret (by decide) cx hw (⟨_, fun h9 => absurd h9 (by rw [hb9]; decide), by rw [hb9]; rfl, rfl⟩) (Nat.le_of_ble_eq_true rfl) (Nat.le_of_ble_eq_true rfl) dX9_isDone_234
  by_cases t_15_110 : c = 110
  · skip
    refine lv_tableIn (tgt := 209) hx hb dX9_isDone_15 (by rw [t_15_110]; decide) (by rw [t_15_110]; decide) (by rw [t_15_110]; rfl) (by decide) ?_
    refine lv_iload_n hx hb dX9_isDone_209 rfl (lv_at hl 1 rfl) ?_
    refine lv_iconst (v := 1) hx hb dX9_isDone_210 (by decide) ?_
    refine lv_bipush (v := 60) hx hb dX9_isDone_211 (by decide) ?_
    refine r_det (r_S cx hw (kX9_isIn l hl9 g (nu 0) 1 60) (va_cwS 3 hts (lw_S q1240 q1241 q94 q1242) rfl rfl rfl (by decide +kernel) ⟨Nat.le_of_ble_eq_true rfl, Nat.le_of_ble_eq_true rfl⟩) [] rfl rfl rfl hl.1 rfl (Nat.le_of_ble_eq_true rfl) dX9_isDone_213 ⟨Nat.le_of_ble_eq_true rfl, Nat.le_of_ble_eq_true rfl⟩) cx hw [] rfl rfl rfl (ws' := WM g a s m im wa L R rf nu hi lm rn pl sd) (rfl) (fun H locs hw => ?_)
    refine W.eq (g2 := F0 m9 216 ls [.int (bI (isInB (nu 0) 1 60))]) rfl ?_
    refine lv_if_eq (tgt := 233) hx hb dX9_isDone_216 (by decide) (fun c_216 => ?_) (fun c_216 => ?_)
    · skip
      have c_216 := bI_e0 c_216
      refine lv_iconst (v := 0) hx hb dX9_isDone_233 (by decide) ?_
      have hb9 : doB s c (nu 0) (nu 1) = false := by simp [doB, t_15_110, t_15_102, t_15_103, t_15_104, t_15_105, t_15_106, t_15_107, t_15_108, t_15_109, c_216]
      exact r_zret (by decide) cx hw (⟨_, fun h9 => absurd h9 (by rw [hb9]; decide), by rw [hb9]; rfl, rfl⟩) (Nat.le_of_ble_eq_true rfl) (Nat.le_of_ble_eq_true rfl) dX9_isDone_234
    · skip
      have c_216 := bI_n0 c_216
      obtain ⟨q, hq, eq⟩ : ∃ q9 : Nat, q9 ≤ 60 ∧ nu 0 = nI q9 := by
        have h9 := c_216
        simp only [isInB, Bool.and_eq_true, decide_eq_true_eq] at h9
        exact nI_rng (M := 60) (by decide) (Int32.le_trans (by decide) h9.1) h9.2
      have tq : tN (nu 0) = q := by rw [eq]; exact tN_nI (by omega)
      refine lv_aload_n hx hb dX9_isDone_219 rfl (lv_at hl 2 rfl) ?_
      refine r_get cx hw in_X9 0 (ci := 8) (T := TX9) (N := 13) rfl rfl 0 (by decide) q1169 (fun _ h9 => h9) rfl dX9_isDone_220 ?_
      refine lv_iconst (v := 1) hx hb dX9_isDone_223 (by decide) ?_
      refine r_iald cx hw 1 rfl 1 rfl (by omega) (Nat.le_of_ble_eq_true rfl) dX9_isDone_224 ?_
      refine lv_iload_n hx hb dX9_isDone_225 rfl (lv_at hl 1 rfl) ?_
      refine lv_iadd hx hb dX9_isDone_226 ?_
      refine lv_sipush (v := 999) hx hb dX9_isDone_227 (by decide) ?_
      refine lv_icmp_le (tgt := 235) hx hb dX9_isDone_230 (by decide) (fun c_230 => ?_) (fun c_230 => ?_)
      · skip
        refine lv_aload_n hx hb dX9_isDone_235 rfl (lv_at hl 2 rfl) ?_
        refine r_get cx hw in_X9 0 (ci := 8) (T := TX9) (N := 13) rfl rfl 0 (by decide) q1169 (fun _ h9 => h9) rfl dX9_isDone_236 ?_
        refine lv_iload_n hx hb dX9_isDone_239 rfl (lv_at hl 1 rfl) ?_
        refine r_topi (x' := nI q) (eq) ?_
        refine r_det (r_S cx hw (kX9_hoursOn l hl9 g (a 1) s hI q (by omega)) (va_cwS 2 hts (lw_S q1261 q1262 q94 q1263) rfl rfl rfl (by decide +kernel) ⟨Nat.le_of_ble_eq_true rfl, Nat.le_of_ble_eq_true rfl⟩) [1] rfl rfl rfl hl.1 rfl (Nat.le_of_ble_eq_true rfl) dX9_isDone_240 ⟨Nat.le_of_ble_eq_true rfl, Nat.le_of_ble_eq_true rfl⟩) cx hw [1] rfl rfl rfl (ws' := WM g a (hoursF s q) m im wa L R rf nu hi lm rn pl sd) (rfl) (fun H locs hw => ?_)
        refine W.eq (g2 := F0 m9 243 ls []) rfl ?_
        refine lv_iconst (v := 1) hx hb dX9_isDone_243 (by decide) ?_
        have hb9 : doB s c (nu 0) (nu 1) = true := by simp [doB, t_15_110, t_15_102, t_15_103, t_15_104, t_15_105, t_15_106, t_15_107, t_15_108, t_15_109, c_216, c_230]
        exact r_zret (by decide) cx hw (⟨_, fun _ => by simp [doS, t_15_110, t_15_102, t_15_103, t_15_104, t_15_105, t_15_106, t_15_107, t_15_108, t_15_109, tq], by rw [hb9]; rfl, rfl⟩) (Nat.le_of_ble_eq_true rfl) (Nat.le_of_ble_eq_true rfl) dX9_isDone_244
      · skip
        refine lv_iconst (v := 0) hx hb dX9_isDone_233 (by decide) ?_
        have hb9 : doB s c (nu 0) (nu 1) = false := by simp [doB, t_15_110, t_15_102, t_15_103, t_15_104, t_15_105, t_15_106, t_15_107, t_15_108, t_15_109, c_216, c_230]
        exact r_zret (by decide) cx hw (⟨_, fun h9 => absurd h9 (by rw [hb9]; decide), by rw [hb9]; rfl, rfl⟩) (Nat.le_of_ble_eq_true rfl) (Nat.le_of_ble_eq_true rfl) dX9_isDone_234
  by_cases t_15_111 : c = 111
  · skip
    refine lv_tableIn (tgt := 209) hx hb dX9_isDone_15 (by rw [t_15_111]; decide) (by rw [t_15_111]; decide) (by rw [t_15_111]; rfl) (by decide) ?_
    refine lv_iload_n hx hb dX9_isDone_209 rfl (lv_at hl 1 rfl) ?_
    refine lv_iconst (v := 1) hx hb dX9_isDone_210 (by decide) ?_
    refine lv_bipush (v := 60) hx hb dX9_isDone_211 (by decide) ?_
    refine r_det (r_S cx hw (kX9_isIn l hl9 g (nu 0) 1 60) (va_cwS 3 hts (lw_S q1240 q1241 q94 q1242) rfl rfl rfl (by decide +kernel) ⟨Nat.le_of_ble_eq_true rfl, Nat.le_of_ble_eq_true rfl⟩) [] rfl rfl rfl hl.1 rfl (Nat.le_of_ble_eq_true rfl) dX9_isDone_213 ⟨Nat.le_of_ble_eq_true rfl, Nat.le_of_ble_eq_true rfl⟩) cx hw [] rfl rfl rfl (ws' := WM g a s m im wa L R rf nu hi lm rn pl sd) (rfl) (fun H locs hw => ?_)
    refine W.eq (g2 := F0 m9 216 ls [.int (bI (isInB (nu 0) 1 60))]) rfl ?_
    refine lv_if_eq (tgt := 233) hx hb dX9_isDone_216 (by decide) (fun c_216 => ?_) (fun c_216 => ?_)
    · skip
      have c_216 := bI_e0 c_216
      refine lv_iconst (v := 0) hx hb dX9_isDone_233 (by decide) ?_
      have hb9 : doB s c (nu 0) (nu 1) = false := by simp [doB, t_15_111, t_15_102, t_15_103, t_15_104, t_15_105, t_15_106, t_15_107, t_15_108, t_15_109, t_15_110, c_216]
      exact r_zret (by decide) cx hw (⟨_, fun h9 => absurd h9 (by rw [hb9]; decide), by rw [hb9]; rfl, rfl⟩) (Nat.le_of_ble_eq_true rfl) (Nat.le_of_ble_eq_true rfl) dX9_isDone_234
    · skip
      have c_216 := bI_n0 c_216
      obtain ⟨q, hq, eq⟩ : ∃ q9 : Nat, q9 ≤ 60 ∧ nu 0 = nI q9 := by
        have h9 := c_216
        simp only [isInB, Bool.and_eq_true, decide_eq_true_eq] at h9
        exact nI_rng (M := 60) (by decide) (Int32.le_trans (by decide) h9.1) h9.2
      have tq : tN (nu 0) = q := by rw [eq]; exact tN_nI (by omega)
      refine lv_aload_n hx hb dX9_isDone_219 rfl (lv_at hl 2 rfl) ?_
      refine r_get cx hw in_X9 0 (ci := 8) (T := TX9) (N := 13) rfl rfl 0 (by decide) q1169 (fun _ h9 => h9) rfl dX9_isDone_220 ?_
      refine lv_iconst (v := 1) hx hb dX9_isDone_223 (by decide) ?_
      refine r_iald cx hw 1 rfl 1 rfl (by omega) (Nat.le_of_ble_eq_true rfl) dX9_isDone_224 ?_
      refine lv_iload_n hx hb dX9_isDone_225 rfl (lv_at hl 1 rfl) ?_
      refine lv_iadd hx hb dX9_isDone_226 ?_
      refine lv_sipush (v := 999) hx hb dX9_isDone_227 (by decide) ?_
      refine lv_icmp_le (tgt := 235) hx hb dX9_isDone_230 (by decide) (fun c_230 => ?_) (fun c_230 => ?_)
      · skip
        refine lv_aload_n hx hb dX9_isDone_235 rfl (lv_at hl 2 rfl) ?_
        refine r_get cx hw in_X9 0 (ci := 8) (T := TX9) (N := 13) rfl rfl 0 (by decide) q1169 (fun _ h9 => h9) rfl dX9_isDone_236 ?_
        refine lv_iload_n hx hb dX9_isDone_239 rfl (lv_at hl 1 rfl) ?_
        refine r_topi (x' := nI q) (eq) ?_
        refine r_det (r_S cx hw (kX9_hoursOn l hl9 g (a 1) s hI q (by omega)) (va_cwS 2 hts (lw_S q1261 q1262 q94 q1263) rfl rfl rfl (by decide +kernel) ⟨Nat.le_of_ble_eq_true rfl, Nat.le_of_ble_eq_true rfl⟩) [1] rfl rfl rfl hl.1 rfl (Nat.le_of_ble_eq_true rfl) dX9_isDone_240 ⟨Nat.le_of_ble_eq_true rfl, Nat.le_of_ble_eq_true rfl⟩) cx hw [1] rfl rfl rfl (ws' := WM g a (hoursF s q) m im wa L R rf nu hi lm rn pl sd) (rfl) (fun H locs hw => ?_)
        refine W.eq (g2 := F0 m9 243 ls []) rfl ?_
        refine lv_iconst (v := 1) hx hb dX9_isDone_243 (by decide) ?_
        have hb9 : doB s c (nu 0) (nu 1) = true := by simp [doB, t_15_111, t_15_102, t_15_103, t_15_104, t_15_105, t_15_106, t_15_107, t_15_108, t_15_109, t_15_110, c_216, c_230]
        exact r_zret (by decide) cx hw (⟨_, fun _ => by simp [doS, t_15_111, t_15_102, t_15_103, t_15_104, t_15_105, t_15_106, t_15_107, t_15_108, t_15_109, t_15_110, tq], by rw [hb9]; rfl, rfl⟩) (Nat.le_of_ble_eq_true rfl) (Nat.le_of_ble_eq_true rfl) dX9_isDone_244
      · skip
        refine lv_iconst (v := 0) hx hb dX9_isDone_233 (by decide) ?_
        have hb9 : doB s c (nu 0) (nu 1) = false := by simp [doB, t_15_111, t_15_102, t_15_103, t_15_104, t_15_105, t_15_106, t_15_107, t_15_108, t_15_109, t_15_110, c_216, c_230]
        exact r_zret (by decide) cx hw (⟨_, fun h9 => absurd h9 (by rw [hb9]; decide), by rw [hb9]; rfl, rfl⟩) (Nat.le_of_ble_eq_true rfl) (Nat.le_of_ble_eq_true rfl) dX9_isDone_234
  by_cases t_15_112 : c = 112
  · skip
    refine lv_tableIn (tgt := 100) hx hb dX9_isDone_15 (by rw [t_15_112]; decide) (by rw [t_15_112]; decide) (by rw [t_15_112]; rfl) (by decide) ?_
    refine lv_aload_n hx hb dX9_isDone_100 rfl (lv_at hl 2 rfl) ?_
    refine r_detP (α := Nat → Int32) (C := fun x9 => ¬ s 0 = 6 → x9 = addF s (nu 0) (nu 1) (nu 2)) (r_V cx hw (kX9_addsPerson l hl9 g a s m im wa L R rf nu hi lm rn pl sd hI) (cwV 0 hts (lw_V q1250 q1252 qs71 q94 q1253) rfl rfl rfl (by decide +kernel) ⟨Nat.le_of_ble_eq_true rfl, Nat.le_of_ble_eq_true rfl⟩) (r_recv hK hw (k := 0) (ci := 8) rfl rfl) [0, 1, 2, 3, 4, 5, 6, 7, 8] rfl rfl rfl hl.1 rfl (Nat.le_of_ble_eq_true rfl) dX9_isDone_101 ⟨Nat.le_of_ble_eq_true rfl, Nat.le_of_ble_eq_true rfl⟩) cx hw [0, 1, 2, 3, 4, 5, 6, 7, 8] rfl rfl (fun _ => WM_adr) (ws' := fun x9 => WM g a x9 m im wa L R rf nu hi lm rn pl sd) (fun _ => rfl) (fun ss_19 H locs hss_19 hw => ?_)
    have hss_19 : ¬ s 0 = 6 → ss_19 = addF s (nu 0) (nu 1) (nu 2) := hss_19
    refine W.eq (g2 := F0 m9 104 ls [.int (bI (!decide (s 0 = 6)))]) rfl ?_
    have hw : WS g A9 s9.heap (WM g a ss_19 m im wa L R rf nu hi lm rn pl sd) H locs := hw
    exact r_zret (bI_nar _) cx hw (⟨_, fun h9 => (hss_19 (by rw [doB, if_pos t_15_112] at h9; simpa using h9)).trans (by rw [doS, if_pos t_15_112]), by rw [doB, if_pos t_15_112], rfl⟩) (Nat.le_of_ble_eq_true rfl) (Nat.le_of_ble_eq_true rfl) dX9_isDone_104
  by_cases t_15_113 : c = 113
  · skip
    refine lv_tableIn (tgt := 209) hx hb dX9_isDone_15 (by rw [t_15_113]; decide) (by rw [t_15_113]; decide) (by rw [t_15_113]; rfl) (by decide) ?_
    refine lv_iload_n hx hb dX9_isDone_209 rfl (lv_at hl 1 rfl) ?_
    refine lv_iconst (v := 1) hx hb dX9_isDone_210 (by decide) ?_
    refine lv_bipush (v := 60) hx hb dX9_isDone_211 (by decide) ?_
    refine r_det (r_S cx hw (kX9_isIn l hl9 g (nu 0) 1 60) (va_cwS 3 hts (lw_S q1240 q1241 q94 q1242) rfl rfl rfl (by decide +kernel) ⟨Nat.le_of_ble_eq_true rfl, Nat.le_of_ble_eq_true rfl⟩) [] rfl rfl rfl hl.1 rfl (Nat.le_of_ble_eq_true rfl) dX9_isDone_213 ⟨Nat.le_of_ble_eq_true rfl, Nat.le_of_ble_eq_true rfl⟩) cx hw [] rfl rfl rfl (ws' := WM g a s m im wa L R rf nu hi lm rn pl sd) (rfl) (fun H locs hw => ?_)
    refine W.eq (g2 := F0 m9 216 ls [.int (bI (isInB (nu 0) 1 60))]) rfl ?_
    refine lv_if_eq (tgt := 233) hx hb dX9_isDone_216 (by decide) (fun c_216 => ?_) (fun c_216 => ?_)
    · skip
      have c_216 := bI_e0 c_216
      refine lv_iconst (v := 0) hx hb dX9_isDone_233 (by decide) ?_
      have hb9 : doB s c (nu 0) (nu 1) = false := by simp [doB, t_15_113, t_15_102, t_15_103, t_15_104, t_15_105, t_15_106, t_15_107, t_15_108, t_15_109, t_15_110, t_15_111, t_15_112, c_216]
      exact r_zret (by decide) cx hw (⟨_, fun h9 => absurd h9 (by rw [hb9]; decide), by rw [hb9]; rfl, rfl⟩) (Nat.le_of_ble_eq_true rfl) (Nat.le_of_ble_eq_true rfl) dX9_isDone_234
    · skip
      have c_216 := bI_n0 c_216
      obtain ⟨q, hq, eq⟩ : ∃ q9 : Nat, q9 ≤ 60 ∧ nu 0 = nI q9 := by
        have h9 := c_216
        simp only [isInB, Bool.and_eq_true, decide_eq_true_eq] at h9
        exact nI_rng (M := 60) (by decide) (Int32.le_trans (by decide) h9.1) h9.2
      have tq : tN (nu 0) = q := by rw [eq]; exact tN_nI (by omega)
      refine lv_aload_n hx hb dX9_isDone_219 rfl (lv_at hl 2 rfl) ?_
      refine r_get cx hw in_X9 0 (ci := 8) (T := TX9) (N := 13) rfl rfl 0 (by decide) q1169 (fun _ h9 => h9) rfl dX9_isDone_220 ?_
      refine lv_iconst (v := 1) hx hb dX9_isDone_223 (by decide) ?_
      refine r_iald cx hw 1 rfl 1 rfl (by omega) (Nat.le_of_ble_eq_true rfl) dX9_isDone_224 ?_
      refine lv_iload_n hx hb dX9_isDone_225 rfl (lv_at hl 1 rfl) ?_
      refine lv_iadd hx hb dX9_isDone_226 ?_
      refine lv_sipush (v := 999) hx hb dX9_isDone_227 (by decide) ?_
      refine lv_icmp_le (tgt := 235) hx hb dX9_isDone_230 (by decide) (fun c_230 => ?_) (fun c_230 => ?_)
      · skip
        refine lv_aload_n hx hb dX9_isDone_235 rfl (lv_at hl 2 rfl) ?_
        refine r_get cx hw in_X9 0 (ci := 8) (T := TX9) (N := 13) rfl rfl 0 (by decide) q1169 (fun _ h9 => h9) rfl dX9_isDone_236 ?_
        refine lv_iload_n hx hb dX9_isDone_239 rfl (lv_at hl 1 rfl) ?_
        refine r_topi (x' := nI q) (eq) ?_
        refine r_det (r_S cx hw (kX9_hoursOn l hl9 g (a 1) s hI q (by omega)) (va_cwS 2 hts (lw_S q1261 q1262 q94 q1263) rfl rfl rfl (by decide +kernel) ⟨Nat.le_of_ble_eq_true rfl, Nat.le_of_ble_eq_true rfl⟩) [1] rfl rfl rfl hl.1 rfl (Nat.le_of_ble_eq_true rfl) dX9_isDone_240 ⟨Nat.le_of_ble_eq_true rfl, Nat.le_of_ble_eq_true rfl⟩) cx hw [1] rfl rfl rfl (ws' := WM g a (hoursF s q) m im wa L R rf nu hi lm rn pl sd) (rfl) (fun H locs hw => ?_)
        refine W.eq (g2 := F0 m9 243 ls []) rfl ?_
        refine lv_iconst (v := 1) hx hb dX9_isDone_243 (by decide) ?_
        have hb9 : doB s c (nu 0) (nu 1) = true := by simp [doB, t_15_113, t_15_102, t_15_103, t_15_104, t_15_105, t_15_106, t_15_107, t_15_108, t_15_109, t_15_110, t_15_111, t_15_112, c_216, c_230]
        exact r_zret (by decide) cx hw (⟨_, fun _ => by simp [doS, t_15_113, t_15_102, t_15_103, t_15_104, t_15_105, t_15_106, t_15_107, t_15_108, t_15_109, t_15_110, t_15_111, t_15_112, tq], by rw [hb9]; rfl, rfl⟩) (Nat.le_of_ble_eq_true rfl) (Nat.le_of_ble_eq_true rfl) dX9_isDone_244
      · skip
        refine lv_iconst (v := 0) hx hb dX9_isDone_233 (by decide) ?_
        have hb9 : doB s c (nu 0) (nu 1) = false := by simp [doB, t_15_113, t_15_102, t_15_103, t_15_104, t_15_105, t_15_106, t_15_107, t_15_108, t_15_109, t_15_110, t_15_111, t_15_112, c_216, c_230]
        exact r_zret (by decide) cx hw (⟨_, fun h9 => absurd h9 (by rw [hb9]; decide), by rw [hb9]; rfl, rfl⟩) (Nat.le_of_ble_eq_true rfl) (Nat.le_of_ble_eq_true rfl) dX9_isDone_234
  by_cases t_15_114 : c = 114
  · skip
    refine lv_tableIn (tgt := 209) hx hb dX9_isDone_15 (by rw [t_15_114]; decide) (by rw [t_15_114]; decide) (by rw [t_15_114]; rfl) (by decide) ?_
    refine lv_iload_n hx hb dX9_isDone_209 rfl (lv_at hl 1 rfl) ?_
    refine lv_iconst (v := 1) hx hb dX9_isDone_210 (by decide) ?_
    refine lv_bipush (v := 60) hx hb dX9_isDone_211 (by decide) ?_
    refine r_det (r_S cx hw (kX9_isIn l hl9 g (nu 0) 1 60) (va_cwS 3 hts (lw_S q1240 q1241 q94 q1242) rfl rfl rfl (by decide +kernel) ⟨Nat.le_of_ble_eq_true rfl, Nat.le_of_ble_eq_true rfl⟩) [] rfl rfl rfl hl.1 rfl (Nat.le_of_ble_eq_true rfl) dX9_isDone_213 ⟨Nat.le_of_ble_eq_true rfl, Nat.le_of_ble_eq_true rfl⟩) cx hw [] rfl rfl rfl (ws' := WM g a s m im wa L R rf nu hi lm rn pl sd) (rfl) (fun H locs hw => ?_)
    refine W.eq (g2 := F0 m9 216 ls [.int (bI (isInB (nu 0) 1 60))]) rfl ?_
    refine lv_if_eq (tgt := 233) hx hb dX9_isDone_216 (by decide) (fun c_216 => ?_) (fun c_216 => ?_)
    · skip
      have c_216 := bI_e0 c_216
      refine lv_iconst (v := 0) hx hb dX9_isDone_233 (by decide) ?_
      have hb9 : doB s c (nu 0) (nu 1) = false := by simp [doB, t_15_114, t_15_102, t_15_103, t_15_104, t_15_105, t_15_106, t_15_107, t_15_108, t_15_109, t_15_110, t_15_111, t_15_112, t_15_113, c_216]
      exact r_zret (by decide) cx hw (⟨_, fun h9 => absurd h9 (by rw [hb9]; decide), by rw [hb9]; rfl, rfl⟩) (Nat.le_of_ble_eq_true rfl) (Nat.le_of_ble_eq_true rfl) dX9_isDone_234
    · skip
      have c_216 := bI_n0 c_216
      obtain ⟨q, hq, eq⟩ : ∃ q9 : Nat, q9 ≤ 60 ∧ nu 0 = nI q9 := by
        have h9 := c_216
        simp only [isInB, Bool.and_eq_true, decide_eq_true_eq] at h9
        exact nI_rng (M := 60) (by decide) (Int32.le_trans (by decide) h9.1) h9.2
      have tq : tN (nu 0) = q := by rw [eq]; exact tN_nI (by omega)
      refine lv_aload_n hx hb dX9_isDone_219 rfl (lv_at hl 2 rfl) ?_
      refine r_get cx hw in_X9 0 (ci := 8) (T := TX9) (N := 13) rfl rfl 0 (by decide) q1169 (fun _ h9 => h9) rfl dX9_isDone_220 ?_
      refine lv_iconst (v := 1) hx hb dX9_isDone_223 (by decide) ?_
      refine r_iald cx hw 1 rfl 1 rfl (by omega) (Nat.le_of_ble_eq_true rfl) dX9_isDone_224 ?_
      refine lv_iload_n hx hb dX9_isDone_225 rfl (lv_at hl 1 rfl) ?_
      refine lv_iadd hx hb dX9_isDone_226 ?_
      refine lv_sipush (v := 999) hx hb dX9_isDone_227 (by decide) ?_
      refine lv_icmp_le (tgt := 235) hx hb dX9_isDone_230 (by decide) (fun c_230 => ?_) (fun c_230 => ?_)
      · skip
        refine lv_aload_n hx hb dX9_isDone_235 rfl (lv_at hl 2 rfl) ?_
        refine r_get cx hw in_X9 0 (ci := 8) (T := TX9) (N := 13) rfl rfl 0 (by decide) q1169 (fun _ h9 => h9) rfl dX9_isDone_236 ?_
        refine lv_iload_n hx hb dX9_isDone_239 rfl (lv_at hl 1 rfl) ?_
        refine r_topi (x' := nI q) (eq) ?_
        refine r_det (r_S cx hw (kX9_hoursOn l hl9 g (a 1) s hI q (by omega)) (va_cwS 2 hts (lw_S q1261 q1262 q94 q1263) rfl rfl rfl (by decide +kernel) ⟨Nat.le_of_ble_eq_true rfl, Nat.le_of_ble_eq_true rfl⟩) [1] rfl rfl rfl hl.1 rfl (Nat.le_of_ble_eq_true rfl) dX9_isDone_240 ⟨Nat.le_of_ble_eq_true rfl, Nat.le_of_ble_eq_true rfl⟩) cx hw [1] rfl rfl rfl (ws' := WM g a (hoursF s q) m im wa L R rf nu hi lm rn pl sd) (rfl) (fun H locs hw => ?_)
        refine W.eq (g2 := F0 m9 243 ls []) rfl ?_
        refine lv_iconst (v := 1) hx hb dX9_isDone_243 (by decide) ?_
        have hb9 : doB s c (nu 0) (nu 1) = true := by simp [doB, t_15_114, t_15_102, t_15_103, t_15_104, t_15_105, t_15_106, t_15_107, t_15_108, t_15_109, t_15_110, t_15_111, t_15_112, t_15_113, c_216, c_230]
        exact r_zret (by decide) cx hw (⟨_, fun _ => by simp [doS, t_15_114, t_15_102, t_15_103, t_15_104, t_15_105, t_15_106, t_15_107, t_15_108, t_15_109, t_15_110, t_15_111, t_15_112, t_15_113, tq], by rw [hb9]; rfl, rfl⟩) (Nat.le_of_ble_eq_true rfl) (Nat.le_of_ble_eq_true rfl) dX9_isDone_244
      · skip
        refine lv_iconst (v := 0) hx hb dX9_isDone_233 (by decide) ?_
        have hb9 : doB s c (nu 0) (nu 1) = false := by simp [doB, t_15_114, t_15_102, t_15_103, t_15_104, t_15_105, t_15_106, t_15_107, t_15_108, t_15_109, t_15_110, t_15_111, t_15_112, t_15_113, c_216, c_230]
        exact r_zret (by decide) cx hw (⟨_, fun h9 => absurd h9 (by rw [hb9]; decide), by rw [hb9]; rfl, rfl⟩) (Nat.le_of_ble_eq_true rfl) (Nat.le_of_ble_eq_true rfl) dX9_isDone_234
  by_cases t_15_115 : c = 115
  · skip
    refine lv_tableIn (tgt := 186) hx hb dX9_isDone_15 (by rw [t_15_115]; decide) (by rw [t_15_115]; decide) (by rw [t_15_115]; rfl) (by decide) ?_
    refine lv_aload_n hx hb dX9_isDone_186 rfl (lv_at hl 2 rfl) ?_
    refine lv_iload_n hx hb dX9_isDone_187 rfl (lv_at hl 1 rfl) ?_
    refine r_det (r_V cx hw (kX9_isPerson l hl9 g a s m im wa L R rf nu hi lm rn pl sd (nu 0)) (cwV 1 hts (lw_V q1257 q1259 qs72 q94 q1260) rfl rfl rfl (by decide +kernel) ⟨Nat.le_of_ble_eq_true rfl, Nat.le_of_ble_eq_true rfl⟩) (r_recv hK hw (k := 0) (ci := 8) rfl rfl) [0, 1, 2, 3, 4, 5, 6, 7, 8] rfl rfl rfl hl.1 rfl (Nat.le_of_ble_eq_true rfl) dX9_isDone_188 ⟨Nat.le_of_ble_eq_true rfl, Nat.le_of_ble_eq_true rfl⟩) cx hw [0, 1, 2, 3, 4, 5, 6, 7, 8] rfl rfl WM_adr (ws' := WM g a s m im wa L R rf nu hi lm rn pl sd) (rfl) (fun H locs hw => ?_)
    refine W.eq (g2 := F0 m9 191 ls [.int (bI (psB s (nu 0)))]) rfl ?_
    refine lv_if_ne (tgt := 196) hx hb dX9_isDone_191 (by decide) (fun c_191 => ?_) (fun c_191 => ?_)
    · skip
      have c_191 := bI_n0 c_191
      obtain ⟨q, hq, eq⟩ := psB_rng hI c_191
      have hN := hI.1
      have tq : tN (nu 0) = q := by rw [eq]; exact tN_nI (by omega)
      refine lv_aload_n hx hb dX9_isDone_196 rfl (lv_at hl 2 rfl) ?_
      refine r_get cx hw in_X9 0 (ci := 8) (T := TX9) (N := 13) rfl rfl 0 (by decide) q1169 (fun _ h9 => h9) rfl dX9_isDone_197 ?_
      refine lv_iload_n hx hb dX9_isDone_200 rfl (lv_at hl 1 rfl) ?_
      refine r_topi (x' := nI q) (eq) ?_
      refine lv_iconst (v := 4) hx hb dX9_isDone_201 (by decide) ?_
      refine r_det (r_S cx hw (kX9_of l hl9 g q 4) (va_cwS 2 hts (lw_S q1254 q1255 q94 q1256) rfl rfl rfl (by decide +kernel) ⟨Nat.le_of_ble_eq_true rfl, Nat.le_of_ble_eq_true rfl⟩) [] rfl rfl rfl hl.1 rfl (Nat.le_of_ble_eq_true rfl) dX9_isDone_202 ⟨Nat.le_of_ble_eq_true rfl, Nat.le_of_ble_eq_true rfl⟩) cx hw [] rfl rfl rfl (ws' := WM g a s m im wa L R rf nu hi lm rn pl sd) (rfl) (fun H locs hw => ?_)
      refine W.eq (g2 := F0 m9 205 ls [.int (nI (5 + 7 * q + 4)), .ref (a 1)]) rfl ?_
      refine lv_iconst (v := 1) hx hb dX9_isDone_205 (by decide) ?_
      refine r_iast cx hw 1 rfl (5 + 7 * q + 4) rfl (by omega) (Nat.le_of_ble_eq_true rfl) dX9_isDone_206 (fun H locs hw => ?_)
      have hw : WS g A9 s9.heap (WM g a (upd s (5 + 7 * q + 4) 1) m im wa L R rf nu hi lm rn pl sd) H locs := hw
      refine lv_iconst (v := 1) hx hb dX9_isDone_207 (by decide) ?_
      have hb9 : doB s c (nu 0) (nu 1) = true := by simp [doB, t_15_115, t_15_102, t_15_103, t_15_104, t_15_105, t_15_106, t_15_107, t_15_108, t_15_109, t_15_110, t_15_111, t_15_112, t_15_113, t_15_114, c_191]
      exact r_zret (by decide) cx hw (⟨_, fun _ => by simp [doS, t_15_115, t_15_102, t_15_103, t_15_104, t_15_105, t_15_106, t_15_107, t_15_108, t_15_109, t_15_110, t_15_111, t_15_112, t_15_113, t_15_114, tq], by rw [hb9]; rfl, rfl⟩) (Nat.le_of_ble_eq_true rfl) (Nat.le_of_ble_eq_true rfl) dX9_isDone_208
    · skip
      have c_191 := bI_e0 c_191
      refine lv_iconst (v := 0) hx hb dX9_isDone_194 (by decide) ?_
      have hb9 : doB s c (nu 0) (nu 1) = false := by simp [doB, t_15_115, t_15_102, t_15_103, t_15_104, t_15_105, t_15_106, t_15_107, t_15_108, t_15_109, t_15_110, t_15_111, t_15_112, t_15_113, t_15_114, c_191]
      exact r_zret (by decide) cx hw (⟨_, fun h9 => absurd h9 (by rw [hb9]; decide), by rw [hb9]; rfl, rfl⟩) (Nat.le_of_ble_eq_true rfl) (Nat.le_of_ble_eq_true rfl) dX9_isDone_195
  by_cases t_15_116 : c = 116
  · skip
    refine lv_tableIn (tgt := 209) hx hb dX9_isDone_15 (by rw [t_15_116]; decide) (by rw [t_15_116]; decide) (by rw [t_15_116]; rfl) (by decide) ?_
    refine lv_iload_n hx hb dX9_isDone_209 rfl (lv_at hl 1 rfl) ?_
    refine lv_iconst (v := 1) hx hb dX9_isDone_210 (by decide) ?_
    refine lv_bipush (v := 60) hx hb dX9_isDone_211 (by decide) ?_
    refine r_det (r_S cx hw (kX9_isIn l hl9 g (nu 0) 1 60) (va_cwS 3 hts (lw_S q1240 q1241 q94 q1242) rfl rfl rfl (by decide +kernel) ⟨Nat.le_of_ble_eq_true rfl, Nat.le_of_ble_eq_true rfl⟩) [] rfl rfl rfl hl.1 rfl (Nat.le_of_ble_eq_true rfl) dX9_isDone_213 ⟨Nat.le_of_ble_eq_true rfl, Nat.le_of_ble_eq_true rfl⟩) cx hw [] rfl rfl rfl (ws' := WM g a s m im wa L R rf nu hi lm rn pl sd) (rfl) (fun H locs hw => ?_)
    refine W.eq (g2 := F0 m9 216 ls [.int (bI (isInB (nu 0) 1 60))]) rfl ?_
    refine lv_if_eq (tgt := 233) hx hb dX9_isDone_216 (by decide) (fun c_216 => ?_) (fun c_216 => ?_)
    · skip
      have c_216 := bI_e0 c_216
      refine lv_iconst (v := 0) hx hb dX9_isDone_233 (by decide) ?_
      have hb9 : doB s c (nu 0) (nu 1) = false := by simp [doB, t_15_116, t_15_102, t_15_103, t_15_104, t_15_105, t_15_106, t_15_107, t_15_108, t_15_109, t_15_110, t_15_111, t_15_112, t_15_113, t_15_114, t_15_115, c_216]
      exact r_zret (by decide) cx hw (⟨_, fun h9 => absurd h9 (by rw [hb9]; decide), by rw [hb9]; rfl, rfl⟩) (Nat.le_of_ble_eq_true rfl) (Nat.le_of_ble_eq_true rfl) dX9_isDone_234
    · skip
      have c_216 := bI_n0 c_216
      obtain ⟨q, hq, eq⟩ : ∃ q9 : Nat, q9 ≤ 60 ∧ nu 0 = nI q9 := by
        have h9 := c_216
        simp only [isInB, Bool.and_eq_true, decide_eq_true_eq] at h9
        exact nI_rng (M := 60) (by decide) (Int32.le_trans (by decide) h9.1) h9.2
      have tq : tN (nu 0) = q := by rw [eq]; exact tN_nI (by omega)
      refine lv_aload_n hx hb dX9_isDone_219 rfl (lv_at hl 2 rfl) ?_
      refine r_get cx hw in_X9 0 (ci := 8) (T := TX9) (N := 13) rfl rfl 0 (by decide) q1169 (fun _ h9 => h9) rfl dX9_isDone_220 ?_
      refine lv_iconst (v := 1) hx hb dX9_isDone_223 (by decide) ?_
      refine r_iald cx hw 1 rfl 1 rfl (by omega) (Nat.le_of_ble_eq_true rfl) dX9_isDone_224 ?_
      refine lv_iload_n hx hb dX9_isDone_225 rfl (lv_at hl 1 rfl) ?_
      refine lv_iadd hx hb dX9_isDone_226 ?_
      refine lv_sipush (v := 999) hx hb dX9_isDone_227 (by decide) ?_
      refine lv_icmp_le (tgt := 235) hx hb dX9_isDone_230 (by decide) (fun c_230 => ?_) (fun c_230 => ?_)
      · skip
        refine lv_aload_n hx hb dX9_isDone_235 rfl (lv_at hl 2 rfl) ?_
        refine r_get cx hw in_X9 0 (ci := 8) (T := TX9) (N := 13) rfl rfl 0 (by decide) q1169 (fun _ h9 => h9) rfl dX9_isDone_236 ?_
        refine lv_iload_n hx hb dX9_isDone_239 rfl (lv_at hl 1 rfl) ?_
        refine r_topi (x' := nI q) (eq) ?_
        refine r_det (r_S cx hw (kX9_hoursOn l hl9 g (a 1) s hI q (by omega)) (va_cwS 2 hts (lw_S q1261 q1262 q94 q1263) rfl rfl rfl (by decide +kernel) ⟨Nat.le_of_ble_eq_true rfl, Nat.le_of_ble_eq_true rfl⟩) [1] rfl rfl rfl hl.1 rfl (Nat.le_of_ble_eq_true rfl) dX9_isDone_240 ⟨Nat.le_of_ble_eq_true rfl, Nat.le_of_ble_eq_true rfl⟩) cx hw [1] rfl rfl rfl (ws' := WM g a (hoursF s q) m im wa L R rf nu hi lm rn pl sd) (rfl) (fun H locs hw => ?_)
        refine W.eq (g2 := F0 m9 243 ls []) rfl ?_
        refine lv_iconst (v := 1) hx hb dX9_isDone_243 (by decide) ?_
        have hb9 : doB s c (nu 0) (nu 1) = true := by simp [doB, t_15_116, t_15_102, t_15_103, t_15_104, t_15_105, t_15_106, t_15_107, t_15_108, t_15_109, t_15_110, t_15_111, t_15_112, t_15_113, t_15_114, t_15_115, c_216, c_230]
        exact r_zret (by decide) cx hw (⟨_, fun _ => by simp [doS, t_15_116, t_15_102, t_15_103, t_15_104, t_15_105, t_15_106, t_15_107, t_15_108, t_15_109, t_15_110, t_15_111, t_15_112, t_15_113, t_15_114, t_15_115, tq], by rw [hb9]; rfl, rfl⟩) (Nat.le_of_ble_eq_true rfl) (Nat.le_of_ble_eq_true rfl) dX9_isDone_244
      · skip
        refine lv_iconst (v := 0) hx hb dX9_isDone_233 (by decide) ?_
        have hb9 : doB s c (nu 0) (nu 1) = false := by simp [doB, t_15_116, t_15_102, t_15_103, t_15_104, t_15_105, t_15_106, t_15_107, t_15_108, t_15_109, t_15_110, t_15_111, t_15_112, t_15_113, t_15_114, t_15_115, c_216, c_230]
        exact r_zret (by decide) cx hw (⟨_, fun h9 => absurd h9 (by rw [hb9]; decide), by rw [hb9]; rfl, rfl⟩) (Nat.le_of_ble_eq_true rfl) (Nat.le_of_ble_eq_true rfl) dX9_isDone_234
  by_cases t_15_117 : c = 117
  · skip
    refine lv_tableIn (tgt := 209) hx hb dX9_isDone_15 (by rw [t_15_117]; decide) (by rw [t_15_117]; decide) (by rw [t_15_117]; rfl) (by decide) ?_
    refine lv_iload_n hx hb dX9_isDone_209 rfl (lv_at hl 1 rfl) ?_
    refine lv_iconst (v := 1) hx hb dX9_isDone_210 (by decide) ?_
    refine lv_bipush (v := 60) hx hb dX9_isDone_211 (by decide) ?_
    refine r_det (r_S cx hw (kX9_isIn l hl9 g (nu 0) 1 60) (va_cwS 3 hts (lw_S q1240 q1241 q94 q1242) rfl rfl rfl (by decide +kernel) ⟨Nat.le_of_ble_eq_true rfl, Nat.le_of_ble_eq_true rfl⟩) [] rfl rfl rfl hl.1 rfl (Nat.le_of_ble_eq_true rfl) dX9_isDone_213 ⟨Nat.le_of_ble_eq_true rfl, Nat.le_of_ble_eq_true rfl⟩) cx hw [] rfl rfl rfl (ws' := WM g a s m im wa L R rf nu hi lm rn pl sd) (rfl) (fun H locs hw => ?_)
    refine W.eq (g2 := F0 m9 216 ls [.int (bI (isInB (nu 0) 1 60))]) rfl ?_
    refine lv_if_eq (tgt := 233) hx hb dX9_isDone_216 (by decide) (fun c_216 => ?_) (fun c_216 => ?_)
    · skip
      have c_216 := bI_e0 c_216
      refine lv_iconst (v := 0) hx hb dX9_isDone_233 (by decide) ?_
      have hb9 : doB s c (nu 0) (nu 1) = false := by simp [doB, t_15_117, t_15_102, t_15_103, t_15_104, t_15_105, t_15_106, t_15_107, t_15_108, t_15_109, t_15_110, t_15_111, t_15_112, t_15_113, t_15_114, t_15_115, t_15_116, c_216]
      exact r_zret (by decide) cx hw (⟨_, fun h9 => absurd h9 (by rw [hb9]; decide), by rw [hb9]; rfl, rfl⟩) (Nat.le_of_ble_eq_true rfl) (Nat.le_of_ble_eq_true rfl) dX9_isDone_234
    · skip
      have c_216 := bI_n0 c_216
      obtain ⟨q, hq, eq⟩ : ∃ q9 : Nat, q9 ≤ 60 ∧ nu 0 = nI q9 := by
        have h9 := c_216
        simp only [isInB, Bool.and_eq_true, decide_eq_true_eq] at h9
        exact nI_rng (M := 60) (by decide) (Int32.le_trans (by decide) h9.1) h9.2
      have tq : tN (nu 0) = q := by rw [eq]; exact tN_nI (by omega)
      refine lv_aload_n hx hb dX9_isDone_219 rfl (lv_at hl 2 rfl) ?_
      refine r_get cx hw in_X9 0 (ci := 8) (T := TX9) (N := 13) rfl rfl 0 (by decide) q1169 (fun _ h9 => h9) rfl dX9_isDone_220 ?_
      refine lv_iconst (v := 1) hx hb dX9_isDone_223 (by decide) ?_
      refine r_iald cx hw 1 rfl 1 rfl (by omega) (Nat.le_of_ble_eq_true rfl) dX9_isDone_224 ?_
      refine lv_iload_n hx hb dX9_isDone_225 rfl (lv_at hl 1 rfl) ?_
      refine lv_iadd hx hb dX9_isDone_226 ?_
      refine lv_sipush (v := 999) hx hb dX9_isDone_227 (by decide) ?_
      refine lv_icmp_le (tgt := 235) hx hb dX9_isDone_230 (by decide) (fun c_230 => ?_) (fun c_230 => ?_)
      · skip
        refine lv_aload_n hx hb dX9_isDone_235 rfl (lv_at hl 2 rfl) ?_
        refine r_get cx hw in_X9 0 (ci := 8) (T := TX9) (N := 13) rfl rfl 0 (by decide) q1169 (fun _ h9 => h9) rfl dX9_isDone_236 ?_
        refine lv_iload_n hx hb dX9_isDone_239 rfl (lv_at hl 1 rfl) ?_
        refine r_topi (x' := nI q) (eq) ?_
        refine r_det (r_S cx hw (kX9_hoursOn l hl9 g (a 1) s hI q (by omega)) (va_cwS 2 hts (lw_S q1261 q1262 q94 q1263) rfl rfl rfl (by decide +kernel) ⟨Nat.le_of_ble_eq_true rfl, Nat.le_of_ble_eq_true rfl⟩) [1] rfl rfl rfl hl.1 rfl (Nat.le_of_ble_eq_true rfl) dX9_isDone_240 ⟨Nat.le_of_ble_eq_true rfl, Nat.le_of_ble_eq_true rfl⟩) cx hw [1] rfl rfl rfl (ws' := WM g a (hoursF s q) m im wa L R rf nu hi lm rn pl sd) (rfl) (fun H locs hw => ?_)
        refine W.eq (g2 := F0 m9 243 ls []) rfl ?_
        refine lv_iconst (v := 1) hx hb dX9_isDone_243 (by decide) ?_
        have hb9 : doB s c (nu 0) (nu 1) = true := by simp [doB, t_15_117, t_15_102, t_15_103, t_15_104, t_15_105, t_15_106, t_15_107, t_15_108, t_15_109, t_15_110, t_15_111, t_15_112, t_15_113, t_15_114, t_15_115, t_15_116, c_216, c_230]
        exact r_zret (by decide) cx hw (⟨_, fun _ => by simp [doS, t_15_117, t_15_102, t_15_103, t_15_104, t_15_105, t_15_106, t_15_107, t_15_108, t_15_109, t_15_110, t_15_111, t_15_112, t_15_113, t_15_114, t_15_115, t_15_116, tq], by rw [hb9]; rfl, rfl⟩) (Nat.le_of_ble_eq_true rfl) (Nat.le_of_ble_eq_true rfl) dX9_isDone_244
      · skip
        refine lv_iconst (v := 0) hx hb dX9_isDone_233 (by decide) ?_
        have hb9 : doB s c (nu 0) (nu 1) = false := by simp [doB, t_15_117, t_15_102, t_15_103, t_15_104, t_15_105, t_15_106, t_15_107, t_15_108, t_15_109, t_15_110, t_15_111, t_15_112, t_15_113, t_15_114, t_15_115, t_15_116, c_216, c_230]
        exact r_zret (by decide) cx hw (⟨_, fun h9 => absurd h9 (by rw [hb9]; decide), by rw [hb9]; rfl, rfl⟩) (Nat.le_of_ble_eq_true rfl) (Nat.le_of_ble_eq_true rfl) dX9_isDone_234
  by_cases t_15_118 : c = 118
  · skip
    refine lv_tableIn (tgt := 209) hx hb dX9_isDone_15 (by rw [t_15_118]; decide) (by rw [t_15_118]; decide) (by rw [t_15_118]; rfl) (by decide) ?_
    refine lv_iload_n hx hb dX9_isDone_209 rfl (lv_at hl 1 rfl) ?_
    refine lv_iconst (v := 1) hx hb dX9_isDone_210 (by decide) ?_
    refine lv_bipush (v := 60) hx hb dX9_isDone_211 (by decide) ?_
    refine r_det (r_S cx hw (kX9_isIn l hl9 g (nu 0) 1 60) (va_cwS 3 hts (lw_S q1240 q1241 q94 q1242) rfl rfl rfl (by decide +kernel) ⟨Nat.le_of_ble_eq_true rfl, Nat.le_of_ble_eq_true rfl⟩) [] rfl rfl rfl hl.1 rfl (Nat.le_of_ble_eq_true rfl) dX9_isDone_213 ⟨Nat.le_of_ble_eq_true rfl, Nat.le_of_ble_eq_true rfl⟩) cx hw [] rfl rfl rfl (ws' := WM g a s m im wa L R rf nu hi lm rn pl sd) (rfl) (fun H locs hw => ?_)
    refine W.eq (g2 := F0 m9 216 ls [.int (bI (isInB (nu 0) 1 60))]) rfl ?_
    refine lv_if_eq (tgt := 233) hx hb dX9_isDone_216 (by decide) (fun c_216 => ?_) (fun c_216 => ?_)
    · skip
      have c_216 := bI_e0 c_216
      refine lv_iconst (v := 0) hx hb dX9_isDone_233 (by decide) ?_
      have hb9 : doB s c (nu 0) (nu 1) = false := by simp [doB, t_15_118, t_15_102, t_15_103, t_15_104, t_15_105, t_15_106, t_15_107, t_15_108, t_15_109, t_15_110, t_15_111, t_15_112, t_15_113, t_15_114, t_15_115, t_15_116, t_15_117, c_216]
      exact r_zret (by decide) cx hw (⟨_, fun h9 => absurd h9 (by rw [hb9]; decide), by rw [hb9]; rfl, rfl⟩) (Nat.le_of_ble_eq_true rfl) (Nat.le_of_ble_eq_true rfl) dX9_isDone_234
    · skip
      have c_216 := bI_n0 c_216
      obtain ⟨q, hq, eq⟩ : ∃ q9 : Nat, q9 ≤ 60 ∧ nu 0 = nI q9 := by
        have h9 := c_216
        simp only [isInB, Bool.and_eq_true, decide_eq_true_eq] at h9
        exact nI_rng (M := 60) (by decide) (Int32.le_trans (by decide) h9.1) h9.2
      have tq : tN (nu 0) = q := by rw [eq]; exact tN_nI (by omega)
      refine lv_aload_n hx hb dX9_isDone_219 rfl (lv_at hl 2 rfl) ?_
      refine r_get cx hw in_X9 0 (ci := 8) (T := TX9) (N := 13) rfl rfl 0 (by decide) q1169 (fun _ h9 => h9) rfl dX9_isDone_220 ?_
      refine lv_iconst (v := 1) hx hb dX9_isDone_223 (by decide) ?_
      refine r_iald cx hw 1 rfl 1 rfl (by omega) (Nat.le_of_ble_eq_true rfl) dX9_isDone_224 ?_
      refine lv_iload_n hx hb dX9_isDone_225 rfl (lv_at hl 1 rfl) ?_
      refine lv_iadd hx hb dX9_isDone_226 ?_
      refine lv_sipush (v := 999) hx hb dX9_isDone_227 (by decide) ?_
      refine lv_icmp_le (tgt := 235) hx hb dX9_isDone_230 (by decide) (fun c_230 => ?_) (fun c_230 => ?_)
      · skip
        refine lv_aload_n hx hb dX9_isDone_235 rfl (lv_at hl 2 rfl) ?_
        refine r_get cx hw in_X9 0 (ci := 8) (T := TX9) (N := 13) rfl rfl 0 (by decide) q1169 (fun _ h9 => h9) rfl dX9_isDone_236 ?_
        refine lv_iload_n hx hb dX9_isDone_239 rfl (lv_at hl 1 rfl) ?_
        refine r_topi (x' := nI q) (eq) ?_
        refine r_det (r_S cx hw (kX9_hoursOn l hl9 g (a 1) s hI q (by omega)) (va_cwS 2 hts (lw_S q1261 q1262 q94 q1263) rfl rfl rfl (by decide +kernel) ⟨Nat.le_of_ble_eq_true rfl, Nat.le_of_ble_eq_true rfl⟩) [1] rfl rfl rfl hl.1 rfl (Nat.le_of_ble_eq_true rfl) dX9_isDone_240 ⟨Nat.le_of_ble_eq_true rfl, Nat.le_of_ble_eq_true rfl⟩) cx hw [1] rfl rfl rfl (ws' := WM g a (hoursF s q) m im wa L R rf nu hi lm rn pl sd) (rfl) (fun H locs hw => ?_)
        refine W.eq (g2 := F0 m9 243 ls []) rfl ?_
        refine lv_iconst (v := 1) hx hb dX9_isDone_243 (by decide) ?_
        have hb9 : doB s c (nu 0) (nu 1) = true := by simp [doB, t_15_118, t_15_102, t_15_103, t_15_104, t_15_105, t_15_106, t_15_107, t_15_108, t_15_109, t_15_110, t_15_111, t_15_112, t_15_113, t_15_114, t_15_115, t_15_116, t_15_117, c_216, c_230]
        exact r_zret (by decide) cx hw (⟨_, fun _ => by simp [doS, t_15_118, t_15_102, t_15_103, t_15_104, t_15_105, t_15_106, t_15_107, t_15_108, t_15_109, t_15_110, t_15_111, t_15_112, t_15_113, t_15_114, t_15_115, t_15_116, t_15_117, tq], by rw [hb9]; rfl, rfl⟩) (Nat.le_of_ble_eq_true rfl) (Nat.le_of_ble_eq_true rfl) dX9_isDone_244
      · skip
        refine lv_iconst (v := 0) hx hb dX9_isDone_233 (by decide) ?_
        have hb9 : doB s c (nu 0) (nu 1) = false := by simp [doB, t_15_118, t_15_102, t_15_103, t_15_104, t_15_105, t_15_106, t_15_107, t_15_108, t_15_109, t_15_110, t_15_111, t_15_112, t_15_113, t_15_114, t_15_115, t_15_116, t_15_117, c_216, c_230]
        exact r_zret (by decide) cx hw (⟨_, fun h9 => absurd h9 (by rw [hb9]; decide), by rw [hb9]; rfl, rfl⟩) (Nat.le_of_ble_eq_true rfl) (Nat.le_of_ble_eq_true rfl) dX9_isDone_234
  by_cases t_15_119 : c = 119
  · skip
    refine lv_tableIn (tgt := 158) hx hb dX9_isDone_15 (by rw [t_15_119]; decide) (by rw [t_15_119]; decide) (by rw [t_15_119]; rfl) (by decide) ?_
    refine lv_aload_n hx hb dX9_isDone_158 rfl (lv_at hl 2 rfl) ?_
    refine r_get cx hw in_X9 0 (ci := 8) (T := TX9) (N := 13) rfl rfl 0 (by decide) q1169 (fun _ h9 => h9) rfl dX9_isDone_159 ?_
    refine lv_iconst (v := 2) hx hb dX9_isDone_162 (by decide) ?_
    refine lv_iload_n hx hb dX9_isDone_163 rfl (lv_at hl 1 rfl) ?_
    refine r_iast cx hw 1 rfl 2 rfl (by omega) (Nat.le_of_ble_eq_true rfl) dX9_isDone_164 (fun H locs hw => ?_)
    have hw : WS g A9 s9.heap (WM g a (upd s 2 (nu 0)) m im wa L R rf nu hi lm rn pl sd) H locs := hw
    refine lv_iconst (v := 1) hx hb dX9_isDone_165 (by decide) ?_
    have hb9 : doB s c (nu 0) (nu 1) = true := by simp [doB, t_15_119, t_15_102, t_15_103, t_15_104, t_15_105, t_15_106, t_15_107, t_15_108, t_15_109, t_15_110, t_15_111, t_15_112, t_15_113, t_15_114, t_15_115, t_15_116, t_15_117, t_15_118]
    exact r_zret (by decide) cx hw (⟨_, fun _ => by simp [doS, t_15_119, t_15_102, t_15_103, t_15_104, t_15_105, t_15_106, t_15_107, t_15_108, t_15_109, t_15_110, t_15_111, t_15_112, t_15_113, t_15_114, t_15_115, t_15_116, t_15_117, t_15_118], by rw [hb9]; rfl, rfl⟩) (Nat.le_of_ble_eq_true rfl) (Nat.le_of_ble_eq_true rfl) dX9_isDone_166
  refine lv_tableOut (tgt := 209) hx hb dX9_isDone_15 (by have : ¬ (c).toInt = 102 := lv_neT t_15_102 rfl; have : ¬ (c).toInt = 103 := lv_neT t_15_103 rfl; have : ¬ (c).toInt = 104 := lv_neT t_15_104 rfl; have : ¬ (c).toInt = 105 := lv_neT t_15_105 rfl; have : ¬ (c).toInt = 106 := lv_neT t_15_106 rfl; have : ¬ (c).toInt = 107 := lv_neT t_15_107 rfl; have : ¬ (c).toInt = 108 := lv_neT t_15_108 rfl; have : ¬ (c).toInt = 109 := lv_neT t_15_109 rfl; have : ¬ (c).toInt = 110 := lv_neT t_15_110 rfl; have : ¬ (c).toInt = 111 := lv_neT t_15_111 rfl; have : ¬ (c).toInt = 112 := lv_neT t_15_112 rfl; have : ¬ (c).toInt = 113 := lv_neT t_15_113 rfl; have : ¬ (c).toInt = 114 := lv_neT t_15_114 rfl; have : ¬ (c).toInt = 115 := lv_neT t_15_115 rfl; have : ¬ (c).toInt = 116 := lv_neT t_15_116 rfl; have : ¬ (c).toInt = 117 := lv_neT t_15_117 rfl; have : ¬ (c).toInt = 118 := lv_neT t_15_118 rfl; have : ¬ (c).toInt = 119 := lv_neT t_15_119 rfl; omega) (by decide) ?_
  refine lv_iload_n hx hb dX9_isDone_209 rfl (lv_at hl 1 rfl) ?_
  refine lv_iconst (v := 1) hx hb dX9_isDone_210 (by decide) ?_
  refine lv_bipush (v := 60) hx hb dX9_isDone_211 (by decide) ?_
  refine r_det (r_S cx hw (kX9_isIn l hl9 g (nu 0) 1 60) (va_cwS 3 hts (lw_S q1240 q1241 q94 q1242) rfl rfl rfl (by decide +kernel) ⟨Nat.le_of_ble_eq_true rfl, Nat.le_of_ble_eq_true rfl⟩) [] rfl rfl rfl hl.1 rfl (Nat.le_of_ble_eq_true rfl) dX9_isDone_213 ⟨Nat.le_of_ble_eq_true rfl, Nat.le_of_ble_eq_true rfl⟩) cx hw [] rfl rfl rfl (ws' := WM g a s m im wa L R rf nu hi lm rn pl sd) (rfl) (fun H locs hw => ?_)
  refine W.eq (g2 := F0 m9 216 ls [.int (bI (isInB (nu 0) 1 60))]) rfl ?_
  refine lv_if_eq (tgt := 233) hx hb dX9_isDone_216 (by decide) (fun c_216 => ?_) (fun c_216 => ?_)
  · skip
    have c_216 := bI_e0 c_216
    refine lv_iconst (v := 0) hx hb dX9_isDone_233 (by decide) ?_
    have hb9 : doB s c (nu 0) (nu 1) = false := by simp [doB, t_15_102, t_15_103, t_15_104, t_15_105, t_15_106, t_15_107, t_15_108, t_15_109, t_15_110, t_15_111, t_15_112, t_15_113, t_15_114, t_15_115, t_15_116, t_15_117, t_15_118, t_15_119, c_216]
    exact r_zret (by decide) cx hw (⟨_, fun h9 => absurd h9 (by rw [hb9]; decide), by rw [hb9]; rfl, rfl⟩) (Nat.le_of_ble_eq_true rfl) (Nat.le_of_ble_eq_true rfl) dX9_isDone_234
  · skip
    have c_216 := bI_n0 c_216
    obtain ⟨q, hq, eq⟩ : ∃ q9 : Nat, q9 ≤ 60 ∧ nu 0 = nI q9 := by
      have h9 := c_216
      simp only [isInB, Bool.and_eq_true, decide_eq_true_eq] at h9
      exact nI_rng (M := 60) (by decide) (Int32.le_trans (by decide) h9.1) h9.2
    have tq : tN (nu 0) = q := by rw [eq]; exact tN_nI (by omega)
    refine lv_aload_n hx hb dX9_isDone_219 rfl (lv_at hl 2 rfl) ?_
    refine r_get cx hw in_X9 0 (ci := 8) (T := TX9) (N := 13) rfl rfl 0 (by decide) q1169 (fun _ h9 => h9) rfl dX9_isDone_220 ?_
    refine lv_iconst (v := 1) hx hb dX9_isDone_223 (by decide) ?_
    refine r_iald cx hw 1 rfl 1 rfl (by omega) (Nat.le_of_ble_eq_true rfl) dX9_isDone_224 ?_
    refine lv_iload_n hx hb dX9_isDone_225 rfl (lv_at hl 1 rfl) ?_
    refine lv_iadd hx hb dX9_isDone_226 ?_
    refine lv_sipush (v := 999) hx hb dX9_isDone_227 (by decide) ?_
    refine lv_icmp_le (tgt := 235) hx hb dX9_isDone_230 (by decide) (fun c_230 => ?_) (fun c_230 => ?_)
    · skip
      refine lv_aload_n hx hb dX9_isDone_235 rfl (lv_at hl 2 rfl) ?_
      refine r_get cx hw in_X9 0 (ci := 8) (T := TX9) (N := 13) rfl rfl 0 (by decide) q1169 (fun _ h9 => h9) rfl dX9_isDone_236 ?_
      refine lv_iload_n hx hb dX9_isDone_239 rfl (lv_at hl 1 rfl) ?_
      refine r_topi (x' := nI q) (eq) ?_
      refine r_det (r_S cx hw (kX9_hoursOn l hl9 g (a 1) s hI q (by omega)) (va_cwS 2 hts (lw_S q1261 q1262 q94 q1263) rfl rfl rfl (by decide +kernel) ⟨Nat.le_of_ble_eq_true rfl, Nat.le_of_ble_eq_true rfl⟩) [1] rfl rfl rfl hl.1 rfl (Nat.le_of_ble_eq_true rfl) dX9_isDone_240 ⟨Nat.le_of_ble_eq_true rfl, Nat.le_of_ble_eq_true rfl⟩) cx hw [1] rfl rfl rfl (ws' := WM g a (hoursF s q) m im wa L R rf nu hi lm rn pl sd) (rfl) (fun H locs hw => ?_)
      refine W.eq (g2 := F0 m9 243 ls []) rfl ?_
      refine lv_iconst (v := 1) hx hb dX9_isDone_243 (by decide) ?_
      have hb9 : doB s c (nu 0) (nu 1) = true := by simp [doB, t_15_102, t_15_103, t_15_104, t_15_105, t_15_106, t_15_107, t_15_108, t_15_109, t_15_110, t_15_111, t_15_112, t_15_113, t_15_114, t_15_115, t_15_116, t_15_117, t_15_118, t_15_119, c_216, c_230]
      exact r_zret (by decide) cx hw (⟨_, fun _ => by simp [doS, t_15_102, t_15_103, t_15_104, t_15_105, t_15_106, t_15_107, t_15_108, t_15_109, t_15_110, t_15_111, t_15_112, t_15_113, t_15_114, t_15_115, t_15_116, t_15_117, t_15_118, t_15_119, tq], by rw [hb9]; rfl, rfl⟩) (Nat.le_of_ble_eq_true rfl) (Nat.le_of_ble_eq_true rfl) dX9_isDone_244
    · skip
      refine lv_iconst (v := 0) hx hb dX9_isDone_233 (by decide) ?_
      have hb9 : doB s c (nu 0) (nu 1) = false := by simp [doB, t_15_102, t_15_103, t_15_104, t_15_105, t_15_106, t_15_107, t_15_108, t_15_109, t_15_110, t_15_111, t_15_112, t_15_113, t_15_114, t_15_115, t_15_116, t_15_117, t_15_118, t_15_119, c_216, c_230]
      exact r_zret (by decide) cx hw (⟨_, fun h9 => absurd h9 (by rw [hb9]; decide), by rw [hb9]; rfl, rfl⟩) (Nat.le_of_ble_eq_true rfl) (Nat.le_of_ble_eq_true rfl) dX9_isDone_234

set_option maxHeartbeats 4000000 in
set_option maxRecDepth 100000 in
theorem kX9_letter (l : Launch) (hl9 : l.stackTraces = false) (g : GG) (a : Nat → Nat) (s m im wa L R rf nu : Nat → Int32) (hi rn pl sd : Int32) (M : Nat) (hM : M ≤ 96) (v : Int32) : MC l yX9_letter cX9_letter 2 (some .int) 1 21 0 0 g [.ref (a 0), .int v] (WM g a s m im wa L R rf nu hi (nI M) rn pl sd) (rt (some (.int (ans (wLet M v) (nI (M + 1))))) (WM g a s m im wa (sA (wLet M v) (upd L M v) L) R (rfA (wLet M v) rf) nu hi (nI (if wLet M v = 0 then M + 1 else M)) rn pl sd)) (noX) := by
  refine MC.of (by decide) (Nat.le_of_ble_eq_true rfl) ?_
  intro p9 e9 s9 m9 args9 below9 meth9 c9 A9 ls cx htab hw hl
  have hx := cx.1
  have hb := cx.2.1
  have hts := cx.2.2.2.2.1
  have hK := cx.2.2.2.2.2.2.2.1
  have hl : lv_has ls 2 [(0, .ref (a 0)), (1, .int v)] := hl
  refine lv_iload_n hx hb dX9_letter_0 rfl (lv_at hl 1 rfl) ?_
  refine lv_if_ge (tgt := 11) hx hb dX9_letter_1 (by decide) (fun c_1 => ?_) (fun c_1 => ?_)
  · skip
    refine lv_iload_n hx hb dX9_letter_11 rfl (lv_at hl 1 rfl) ?_
    refine lv_sipush (v := 255) hx hb dX9_letter_12 (by decide) ?_
    refine lv_icmp_gt (tgt := 27) hx hb dX9_letter_15 (by decide) (fun c_15 => ?_) (fun c_15 => ?_)
    · skip
      refine lv_aload_n hx hb dX9_letter_27 rfl (lv_at hl 0 rfl) ?_
      refine lv_bipush (v := (-6)) hx hb dX9_letter_28 (by decide) ?_
      refine r_det (r_V cx hw (kX9_no l hl9 g a s m im wa L R rf nu hi (nI M) rn pl sd (-6) (by unfold okC; decide)) (cwV 1 hts (lw_V q1213 q1215 qs65 q94 q1216) rfl rfl rfl (by decide +kernel) ⟨Nat.le_of_ble_eq_true rfl, Nat.le_of_ble_eq_true rfl⟩) (r_recv hK hw (k := 0) (ci := 8) rfl rfl) [0, 1, 2, 3, 4, 5, 6, 7, 8] rfl rfl rfl hl.1 rfl (Nat.le_of_ble_eq_true rfl) dX9_letter_30 ⟨Nat.le_of_ble_eq_true rfl, Nat.le_of_ble_eq_true rfl⟩) cx hw [0, 1, 2, 3, 4, 5, 6, 7, 8] rfl rfl WM_adr (ws' := WM g a s m im wa L R (rfU rf (-6)) nu hi (nI M) rn pl sd) (rfl) (fun H locs hw => ?_)
      refine W.eq (g2 := F0 m9 33 ls [.int (-6)]) rfl ?_
      have hW : wLet M v = (-6) := by simp [wLet, c_1, c_15]
      exact r_iret cx hw (⟨by rw [hW]; rfl, by rw [hW]; rfl⟩) (Nat.le_of_ble_eq_true rfl) (Nat.le_of_ble_eq_true rfl) dX9_letter_33
    · skip
      refine lv_aload_n hx hb dX9_letter_18 rfl (lv_at hl 0 rfl) ?_
      refine r_get cx hw in_X9 0 (ci := 8) (T := TX9) (N := 13) rfl rfl 8 (by decide) q1177 (fun _ h9 => h9) rfl dX9_letter_19 ?_
      refine lv_bipush (v := 96) hx hb dX9_letter_22 (by decide) ?_
      refine lv_icmp_ne (tgt := 34) hx hb dX9_letter_24 (by decide) (fun c_24 => ?_) (fun c_24 => ?_)
      · skip
        have c_24 : ¬ M = 96 := fun h9 => c_24 ((nI_eq (a := M) (b := 96) (by omega) (by omega)).mpr h9)
        refine lv_aload_n hx hb dX9_letter_34 rfl (lv_at hl 0 rfl) ?_
        refine r_get cx hw in_X9 0 (ci := 8) (T := TX9) (N := 13) rfl rfl 5 (by decide) q1174 (fun _ h9 => h9) rfl dX9_letter_35 ?_
        refine lv_aload_n hx hb dX9_letter_38 rfl (lv_at hl 0 rfl) ?_
        refine r_get cx hw in_X9 0 (ci := 8) (T := TX9) (N := 13) rfl rfl 8 (by decide) q1177 (fun _ h9 => h9) rfl dX9_letter_39 ?_
        refine lv_iload_n hx hb dX9_letter_42 rfl (lv_at hl 1 rfl) ?_
        refine r_iast cx hw 5 rfl M rfl (by omega) (Nat.le_of_ble_eq_true rfl) dX9_letter_43 (fun H locs hw => ?_)
        have hw : WS g A9 s9.heap (WM g a s m im wa (upd L M v) R rf nu hi (nI M) rn pl sd) H locs := hw
        refine lv_aload_n hx hb dX9_letter_44 rfl (lv_at hl 0 rfl) ?_
        refine lv_dup hx hb dX9_letter_45 rfl ?_
        refine r_get cx hw in_X9 0 (ci := 8) (T := TX9) (N := 13) rfl rfl 8 (by decide) q1177 (fun _ h9 => h9) rfl dX9_letter_46 ?_
        refine lv_iconst (v := 1) hx hb dX9_letter_49 (by decide) ?_
        refine lv_iadd hx hb dX9_letter_50 ?_
        refine r_topi (x' := nI (M + 1)) (nI_add M 1) ?_
        refine r_put cx hw in_X9 tyX9 tyX9_ok nmX9 0 (ci := 8) (T := TX9) (N := 13) rfl rfl 8 (by decide) q1177 (fun _ h9 => h9) rfl (rfl) (rfl) (Nat.le_of_ble_eq_true rfl) dX9_letter_51 (fun H locs hw => ?_)
        have hw : WS g A9 s9.heap (WM g a s m im wa (upd L M v) R rf nu hi (nI (M + 1)) rn pl sd) H locs := hw
        refine lv_aload_n hx hb dX9_letter_54 rfl (lv_at hl 0 rfl) ?_
        refine r_get cx hw in_X9 0 (ci := 8) (T := TX9) (N := 13) rfl rfl 8 (by decide) q1177 (fun _ h9 => h9) rfl dX9_letter_55 ?_
        have hW : wLet M v = 0 := by simp [wLet, c_1, c_15, c_24]
        exact r_iret cx hw (⟨by rw [hW]; rfl, by rw [hW]; rfl⟩) (Nat.le_of_ble_eq_true rfl) (Nat.le_of_ble_eq_true rfl) dX9_letter_58
      · skip
        have c_24 : M = 96 := (nI_eq (a := M) (b := 96) (by omega) (by omega)).mp c_24
        refine lv_aload_n hx hb dX9_letter_27 rfl (lv_at hl 0 rfl) ?_
        refine lv_bipush (v := (-6)) hx hb dX9_letter_28 (by decide) ?_
        refine r_det (r_V cx hw (kX9_no l hl9 g a s m im wa L R rf nu hi (nI M) rn pl sd (-6) (by unfold okC; decide)) (cwV 1 hts (lw_V q1213 q1215 qs65 q94 q1216) rfl rfl rfl (by decide +kernel) ⟨Nat.le_of_ble_eq_true rfl, Nat.le_of_ble_eq_true rfl⟩) (r_recv hK hw (k := 0) (ci := 8) rfl rfl) [0, 1, 2, 3, 4, 5, 6, 7, 8] rfl rfl rfl hl.1 rfl (Nat.le_of_ble_eq_true rfl) dX9_letter_30 ⟨Nat.le_of_ble_eq_true rfl, Nat.le_of_ble_eq_true rfl⟩) cx hw [0, 1, 2, 3, 4, 5, 6, 7, 8] rfl rfl WM_adr (ws' := WM g a s m im wa L R (rfU rf (-6)) nu hi (nI M) rn pl sd) (rfl) (fun H locs hw => ?_)
        refine W.eq (g2 := F0 m9 33 ls [.int (-6)]) rfl ?_
        have hW : wLet M v = (-6) := by simp [wLet, c_1, c_15, show M = 96 from c_24]
        exact r_iret cx hw (⟨by rw [hW]; rfl, by rw [hW]; rfl⟩) (Nat.le_of_ble_eq_true rfl) (Nat.le_of_ble_eq_true rfl) dX9_letter_33
  · skip
    refine lv_aload_n hx hb dX9_letter_4 rfl (lv_at hl 0 rfl) ?_
    refine lv_bipush (v := (-4)) hx hb dX9_letter_5 (by decide) ?_
    refine r_det (r_V cx hw (kX9_no l hl9 g a s m im wa L R rf nu hi (nI M) rn pl sd (-4) (by unfold okC; decide)) (cwV 1 hts (lw_V q1213 q1215 qs65 q94 q1216) rfl rfl rfl (by decide +kernel) ⟨Nat.le_of_ble_eq_true rfl, Nat.le_of_ble_eq_true rfl⟩) (r_recv hK hw (k := 0) (ci := 8) rfl rfl) [0, 1, 2, 3, 4, 5, 6, 7, 8] rfl rfl rfl hl.1 rfl (Nat.le_of_ble_eq_true rfl) dX9_letter_7 ⟨Nat.le_of_ble_eq_true rfl, Nat.le_of_ble_eq_true rfl⟩) cx hw [0, 1, 2, 3, 4, 5, 6, 7, 8] rfl rfl WM_adr (ws' := WM g a s m im wa L R (rfU rf (-4)) nu hi (nI M) rn pl sd) (rfl) (fun H locs hw => ?_)
    refine W.eq (g2 := F0 m9 10 ls [.int (-4)]) rfl ?_
    have hW : wLet M v = (-4) := by simp [wLet, c_1]
    exact r_iret cx hw (⟨by rw [hW]; rfl, by rw [hW]; rfl⟩) (Nat.le_of_ble_eq_true rfl) (Nat.le_of_ble_eq_true rfl) dX9_letter_10
