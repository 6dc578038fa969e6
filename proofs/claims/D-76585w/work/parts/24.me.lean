/-! the reference: its methods, 3 -/
set_option maxRecDepth 100000
set_option maxHeartbeats 4000000 in
set_option maxRecDepth 100000 in
theorem kX9_hush (l : Launch) (hl9 : l.stackTraces = false) (g : GG) (a : Nat → Nat) (s m im wa L R rf nu : Nat → Int32) (hi lm rn pl sd : Int32) (hI : InvM s) (n : Int32) : MC l yX9_hush cX9_hush 6 (some .int) 6 132 0 0 g [.ref (a 0), .int n] (WM g a s m im wa L R rf nu hi lm rn pl sd) (rtE (α := Nat → Int32) (some (.int (ans (wrF n 0 48) ((huA s (tN n) (nN s)).1)))) (fun x9 => WM g a s x9 im wa L R (rfA (wrF n 0 48) rf) nu hi lm rn pl sd)) (noX) := by
  by_cases hwr_n : wrF n 0 48 = 0
  · skip
    obtain ⟨q, hq, rfl⟩ := nI_rng (M := 48) (by decide) (Int32.le_trans (by decide) (wrF_0 hwr_n).1) (wrF_0 hwr_n).2
    have eq : tN (nI q) = q := tN_nI (by omega)
    have hW : wrF (nI q) 0 48 = 0 := hwr_n
    refine MC.of (by decide) (Nat.le_of_ble_eq_true rfl) ?_
    intro p9 e9 s9 m9 args9 below9 meth9 c9 A9 ls cx htab hw hl
    have hx := cx.1
    have hb := cx.2.1
    have hts := cx.2.2.2.2.1
    have hK := cx.2.2.2.2.2.2.2.1
    have hl : lv_has ls 6 [(0, .ref (a 0)), (1, .int (nI q))] := hl
    have hN := hI.1
    have J : ∀ (n9 j : Nat) (mm : Nat → Int32), j ≤ nN s → nN s < n9 + j → ∀ (H : Heap) (locs : List Loc) (ls : Array Slot), WS g A9 s9.heap (WM g a s mm im wa L R rf nu hi lm rn pl sd) H locs → lv_has ls 6 [(0, .ref (a 0)), (1, .int (nI q)), (3, .int ((huA s q j).2)), (4, .int ((huA s q j).1)), (5, .int (nI j))] → W p9 l e9 (rmC 6 132 0 0) s9 m9 args9 below9 meth9 c9 H locs 0 0 (vx_MQ below9 (PostA g A9 (rtE (α := Nat → Int32) (some (.int (ans (wrF (nI q) 0 48) ((huA s (tN (nI q)) (nN s)).1)))) (fun x9 => WM g a s x9 im wa L R (rfA (wrF (nI q) 0 48) rf) nu hi lm rn pl sd))) (PxA g A9 (pxR (noX))) args9 s9 0 0 A9) (F0 m9 38 ls []) := by
      intro n9
      induction n9 with
      | zero => intro j mm hj hk9; exact absurd hk9 (by omega)
      | succ n9 ih_J =>
        intro j mm hj hk9  H locs ls hw hl
        refine lv_iload hx hb dX9_hush_38 (lv_at hl 4 rfl) ?_
        refine lv_aload_n hx hb dX9_hush_40 rfl (lv_at hl 0 rfl) ?_
        refine r_get cx hw in_X9 0 (ci := 8) (T := TX9) (N := 13) rfl rfl 0 (by decide) q1169 (fun _ h9 => h9) rfl dX9_hush_41 ?_
        refine lv_iconst (v := 0) hx hb dX9_hush_44 (by decide) ?_
        refine r_iald cx hw 1 rfl 0 rfl (by omega) (Nat.le_of_ble_eq_true rfl) dX9_hush_45 ?_
        refine r_topi (x' := nI (nN s)) (hI.2.1) ?_
        refine lv_icmp_ge (tgt := 110) hx hb dX9_hush_46 (by decide) (fun c_46 => ?_) (fun c_46 => ?_)
        · skip
          have c_46 : (nN s) ≤ j := (nI_leI (a := (nN s)) (b := j) (by omega) (by omega)).mp c_46
          refine lv_iload hx hb dX9_hush_110 (lv_at hl 3 rfl) ?_
          exact r_iret cx hw (⟨_, by rw [hW, ans_0, eq, show j = nN s by omega], by rw [hW, rfA_0]⟩) (Nat.le_of_ble_eq_true rfl) (Nat.le_of_ble_eq_true rfl) dX9_hush_112
        · skip
          have c_46 : j < (nN s) := Nat.not_le.mp (fun h9 => c_46 ((nI_leI (a := (nN s)) (b := j) (by omega) (by omega)).mpr h9))
          refine lv_aload_n hx hb dX9_hush_49 rfl (lv_at hl 0 rfl) ?_
          refine r_get cx hw in_X9 0 (ci := 8) (T := TX9) (N := 13) rfl rfl 0 (by decide) q1169 (fun _ h9 => h9) rfl dX9_hush_50 ?_
          refine lv_aload_n hx hb dX9_hush_53 rfl (lv_at hl 0 rfl) ?_
          refine r_get cx hw in_X9 0 (ci := 8) (T := TX9) (N := 13) rfl rfl 1 (by decide) q1170 (fun _ h9 => h9) rfl dX9_hush_54 ?_
          refine r_det (r_S cx hw (kX9_copies l hl9 g (a 1) (a 2) s mm) (va_cwS 2 hts (lw_S q1243 q1244 q94 q1245) rfl rfl rfl (by decide +kernel) ⟨Nat.le_of_ble_eq_true rfl, Nat.le_of_ble_eq_true rfl⟩) [1, 2] rfl rfl rfl hl.1 rfl (Nat.le_of_ble_eq_true rfl) dX9_hush_57 ⟨Nat.le_of_ble_eq_true rfl, Nat.le_of_ble_eq_true rfl⟩) cx hw [1, 2] rfl rfl rfl (ws' := WM g a s s im wa L R rf nu hi lm rn pl sd) (rfl) (fun H locs hw => ?_)
          refine W.eq (g2 := F0 m9 60 ls []) rfl ?_
          refine lv_aload_n hx hb dX9_hush_60 rfl (lv_at hl 0 rfl) ?_
          refine r_get cx hw in_X9 0 (ci := 8) (T := TX9) (N := 13) rfl rfl 1 (by decide) q1170 (fun _ h9 => h9) rfl dX9_hush_61 ?_
          refine lv_iconst (v := 4) hx hb dX9_hush_64 (by decide) ?_
          refine lv_iconst (v := 1) hx hb dX9_hush_65 (by decide) ?_
          refine lv_iload hx hb dX9_hush_66 (lv_at hl 4 rfl) ?_
          refine lv_ishl hx hb dX9_hush_68 ?_
          refine r_iast cx hw 2 rfl 4 rfl (by omega) (Nat.le_of_ble_eq_true rfl) dX9_hush_69 (fun H locs hw => ?_)
          have hw : WS g A9 s9.heap (WM g a s (upd s 4 ((1 : Int32) <<< ((nI j) &&& 31))) im wa L R rf nu hi lm rn pl sd) H locs := hw
          refine lv_aload_n hx hb dX9_hush_70 rfl (lv_at hl 0 rfl) ?_
          refine r_get cx hw in_X9 0 (ci := 8) (T := TX9) (N := 13) rfl rfl 1 (by decide) q1170 (fun _ h9 => h9) rfl dX9_hush_71 ?_
          refine lv_iload_n hx hb dX9_hush_74 rfl (lv_at hl 1 rfl) ?_
          refine r_det (r_S cx hw (kX9_hoursOn l hl9 g (a 2) (upd s 4 ((1 : Int32) <<< ((nI j) &&& 31))) (InvM_upd hI (by decide) (fun j => by omega)) q (by omega)) (va_cwS 2 hts (lw_S q1261 q1262 q94 q1263) rfl rfl rfl (by decide +kernel) ⟨Nat.le_of_ble_eq_true rfl, Nat.le_of_ble_eq_true rfl⟩) [2] rfl rfl rfl hl.1 rfl (Nat.le_of_ble_eq_true rfl) dX9_hush_75 ⟨Nat.le_of_ble_eq_true rfl, Nat.le_of_ble_eq_true rfl⟩) cx hw [2] rfl rfl rfl (ws' := WM g a s (hoursF (upd s 4 ((1 : Int32) <<< ((nI j) &&& 31))) q) im wa L R rf nu hi lm rn pl sd) (rfl) (fun H locs hw => ?_)
          refine W.eq (g2 := F0 m9 78 ls []) rfl ?_
          refine lv_aload_n hx hb dX9_hush_78 rfl (lv_at hl 0 rfl) ?_
          refine r_get cx hw in_X9 0 (ci := 8) (T := TX9) (N := 13) rfl rfl 1 (by decide) q1170 (fun _ h9 => h9) rfl dX9_hush_79 ?_
          refine r_det (r_S cx hw (kX9_allHave l hl9 g (a 2) (hoursF (upd s 4 ((1 : Int32) <<< ((nI j) &&& 31))) q) ((InvM_upd hI (by decide) (fun j => by omega)).hours q)) (va_cwS 1 hts (lw_S q1357 q1358 q94 q1359) rfl rfl rfl (by decide +kernel) ⟨Nat.le_of_ble_eq_true rfl, Nat.le_of_ble_eq_true rfl⟩) [2] rfl rfl rfl hl.1 rfl (Nat.le_of_ble_eq_true rfl) dX9_hush_82 ⟨Nat.le_of_ble_eq_true rfl, Nat.le_of_ble_eq_true rfl⟩) cx hw [2] rfl rfl rfl (ws' := WM g a s (hoursF (upd s 4 ((1 : Int32) <<< ((nI j) &&& 31))) q) im wa L R rf nu hi lm rn pl sd) (rfl) (fun H locs hw => ?_)
          refine W.eq (g2 := F0 m9 85 ls [.int (allF (hoursF (upd s 4 ((1 : Int32) <<< ((nI j) &&& 31))) q))]) rfl ?_
          refine lv_iload_n hx hb dX9_hush_85 rfl (lv_at hl 2 rfl) ?_
          refine lv_icmp_gt (tgt := 92) hx hb dX9_hush_86 (by decide) (fun c_86 => ?_) (fun c_86 => ?_)
          · skip
            have c_86N := Int32.not_le.mpr c_86
            refine lv_iload hx hb dX9_hush_92 (lv_at hl 4 rfl) ?_
            refine lv_istore (lv' := [(4, .int (nI j)), (0, .ref (a 0)), (1, .int (nI q)), (3, .int ((huA s q j).2)), (5, .int (nI j))]) hx hb dX9_hush_94 hl (by decide) rfl (fun ls hl => ?_)
            refine lv_aload_n hx hb dX9_hush_96 rfl (lv_at hl 1 rfl) ?_
            refine r_get cx hw in_X9 0 (ci := 8) (T := TX9) (N := 13) rfl rfl 1 (by decide) q1170 (fun _ h9 => h9) rfl dX9_hush_97 ?_
            refine r_det (r_S cx hw (kX9_allHave l hl9 g (a 2) (hoursF (upd s 4 ((1 : Int32) <<< ((nI j) &&& 31))) q) ((InvM_upd hI (by decide) (fun j => by omega)).hours q)) (va_cwS 1 hts (lw_S q1357 q1358 q94 q1359) rfl rfl rfl (by decide +kernel) ⟨Nat.le_of_ble_eq_true rfl, Nat.le_of_ble_eq_true rfl⟩) [2] rfl rfl rfl hl.1 rfl (Nat.le_of_ble_eq_true rfl) dX9_hush_100 ⟨Nat.le_of_ble_eq_true rfl, Nat.le_of_ble_eq_true rfl⟩) cx hw [2] rfl rfl rfl (ws' := WM g a s (hoursF (upd s 4 ((1 : Int32) <<< ((nI j) &&& 31))) q) im wa L R rf nu hi lm rn pl sd) (rfl) (fun H locs hw => ?_)
            refine W.eq (g2 := F0 m9 103 ls [.int (allF (hoursF (upd s 4 ((1 : Int32) <<< ((nI j) &&& 31))) q))]) rfl ?_
            refine lv_istore_n (lv' := [(3, .int (allF (hoursF (upd s 4 ((1 : Int32) <<< ((nI j) &&& 31))) q))), (4, .int (nI j)), (0, .ref (a 0)), (1, .int (nI q)), (5, .int (nI j))]) hx hb dX9_hush_103 rfl hl (by decide) rfl (fun ls hl => ?_)
            refine lv_iinc (v := nI (j + 1)) (lv' := [(5, .int (nI (j + 1))), (3, .int (allF (hoursF (upd s 4 ((1 : Int32) <<< ((nI j) &&& 31))) q))), (4, .int (nI j)), (0, .ref (a 0)), (1, .int (nI q))]) hx hb dX9_hush_104 hl (k := 4) rfl (nI_1 j) (by decide) rfl (fun ls hl => ?_)
            refine lv_goto (tgt := 38) hx hb dX9_hush_107 (by decide) ?_
            have e9 : huA s q (j + 1) = (nI j, huV s q j) := by
              show mxS (huV s q) j (huA s q j) = _
              rw [mxS]; exact if_neg (Int32.not_le.mpr c_86)
            exact ih_J (j + 1) (hoursF (upd s 4 ((1 : Int32) <<< ((nI j) &&& 31))) q) (by omega) (by omega)  _ _ _ (hw) (by rw [e9]; exact lv_sub hl [3, 4, 1, 2, 0] rfl)
          · skip
            have c_86N := Int32.not_lt.mp c_86
            refine lv_goto (tgt := 104) hx hb dX9_hush_89 (by decide) ?_
            refine lv_iinc (v := nI (j + 1)) (lv' := [(5, .int (nI (j + 1))), (0, .ref (a 0)), (1, .int (nI q)), (3, .int ((huA s q j).2)), (4, .int ((huA s q j).1))]) hx hb dX9_hush_104 hl (k := 4) rfl (nI_1 j) (by decide) rfl (fun ls hl => ?_)
            refine lv_goto (tgt := 38) hx hb dX9_hush_107 (by decide) ?_
            have e9 : huA s q (j + 1) = huA s q j := by
              show mxS (huV s q) j (huA s q j) = _
              rw [mxS]; exact if_pos (Int32.not_lt.mp c_86)
            exact ih_J (j + 1) (hoursF (upd s 4 ((1 : Int32) <<< ((nI j) &&& 31))) q) (by omega) (by omega)  _ _ _ (hw) (by rw [e9]; exact lv_sub hl [1, 2, 3, 4, 0] rfl)
    refine lv_iload_n hx hb dX9_hush_0 rfl (lv_at hl 1 rfl) ?_
    refine lv_iconst (v := 0) hx hb dX9_hush_1 (by decide) ?_
    refine lv_bipush (v := 48) hx hb dX9_hush_2 (by decide) ?_
    refine r_det (r_S cx hw (kX9_wrongBy l hl9 g (nI q) 0 48) (va_cwS 3 hts (lw_S q1318 q1319 q94 q1320) rfl rfl rfl (by decide +kernel) ⟨Nat.le_of_ble_eq_true rfl, Nat.le_of_ble_eq_true rfl⟩) [] rfl rfl rfl hl.1 rfl (Nat.le_of_ble_eq_true rfl) dX9_hush_4 ⟨Nat.le_of_ble_eq_true rfl, Nat.le_of_ble_eq_true rfl⟩) cx hw [] rfl rfl rfl (ws' := WM g a s m im wa L R rf nu hi lm rn pl sd) (rfl) (fun H locs hw => ?_)
    refine W.eq (g2 := F0 m9 7 ls [.int (wrF (nI q) 0 48)]) rfl ?_
    refine lv_istore_n (lv' := [(2, .int (wrF (nI q) 0 48)), (0, .ref (a 0)), (1, .int (nI q))]) hx hb dX9_hush_7 rfl hl (by decide) rfl (fun ls hl => ?_)
    refine lv_iload_n hx hb dX9_hush_8 rfl (lv_at hl 0 rfl) ?_
    refine lv_if_eq (tgt := 18) hx hb dX9_hush_9 (by decide) (fun c_9 => ?_) (fun c_9 => absurd hwr_n c_9)
    refine lv_aload_n hx hb dX9_hush_18 rfl (lv_at hl 1 rfl) ?_
    refine lv_iload_n hx hb dX9_hush_19 rfl (lv_at hl 2 rfl) ?_
    refine r_det (r_V cx hw (kX9_takes l hl9 g a s m im wa L R rf nu hi lm rn pl sd hI q (by omega)) (cwV 1 hts (lw_V q1349 q1351 qs76 q94 q1352) rfl rfl rfl (by decide +kernel) ⟨Nat.le_of_ble_eq_true rfl, Nat.le_of_ble_eq_true rfl⟩) (r_recv hK hw (k := 0) (ci := 8) rfl rfl) [0, 1, 2, 3, 4, 5, 6, 7, 8] rfl rfl rfl hl.1 rfl (Nat.le_of_ble_eq_true rfl) dX9_hush_20 ⟨Nat.le_of_ble_eq_true rfl, Nat.le_of_ble_eq_true rfl⟩) cx hw [0, 1, 2, 3, 4, 5, 6, 7, 8] rfl rfl rfl (ws' := WM g a s (hoursF s q) im wa L R rf nu hi lm rn pl sd) (rfl) (fun H locs hw => ?_)
    refine W.eq (g2 := F0 m9 23 ls []) rfl ?_
    refine lv_aload_n hx hb dX9_hush_23 rfl (lv_at hl 1 rfl) ?_
    refine r_get cx hw in_X9 0 (ci := 8) (T := TX9) (N := 13) rfl rfl 1 (by decide) q1170 (fun _ h9 => h9) rfl dX9_hush_24 ?_
    refine r_det (r_S cx hw (kX9_allHave l hl9 g (a 2) (hoursF s q) (hI.hours q)) (va_cwS 1 hts (lw_S q1357 q1358 q94 q1359) rfl rfl rfl (by decide +kernel) ⟨Nat.le_of_ble_eq_true rfl, Nat.le_of_ble_eq_true rfl⟩) [2] rfl rfl rfl hl.1 rfl (Nat.le_of_ble_eq_true rfl) dX9_hush_27 ⟨Nat.le_of_ble_eq_true rfl, Nat.le_of_ble_eq_true rfl⟩) cx hw [2] rfl rfl rfl (ws' := WM g a s (hoursF s q) im wa L R rf nu hi lm rn pl sd) (rfl) (fun H locs hw => ?_)
    refine W.eq (g2 := F0 m9 30 ls [.int (allF (hoursF s q))]) rfl ?_
    refine lv_istore_n (lv' := [(3, .int (allF (hoursF s q))), (2, .int (wrF (nI q) 0 48)), (0, .ref (a 0)), (1, .int (nI q))]) hx hb dX9_hush_30 rfl hl (by decide) rfl (fun ls hl => ?_)
    refine lv_bipush (v := (-9)) hx hb dX9_hush_31 (by decide) ?_
    refine lv_istore (lv' := [(4, .int (-9)), (3, .int (allF (hoursF s q))), (2, .int (wrF (nI q) 0 48)), (0, .ref (a 0)), (1, .int (nI q))]) hx hb dX9_hush_33 hl (by decide) rfl (fun ls hl => ?_)
    refine lv_iconst (v := 0) hx hb dX9_hush_35 (by decide) ?_
    refine lv_istore (lv' := [(5, .int 0), (4, .int (-9)), (3, .int (allF (hoursF s q))), (2, .int (wrF (nI q) 0 48)), (0, .ref (a 0)), (1, .int (nI q))]) hx hb dX9_hush_36 hl (by decide) rfl (fun ls hl => ?_)
    exact J (nN s + 1) 0 (hoursF s q) (by omega) (by omega)  _ _ _ (hw) (lv_sub hl [4, 5, 2, 1, 0] rfl)
  · skip
    have hW : wrF n 0 48 = wrF n 0 48 := rfl
    have hne : ¬ wrF n 0 48 = 0 := by rw [hW]; exact hwr_n
    refine MC.of (by decide) (Nat.le_of_ble_eq_true rfl) ?_
    intro p9 e9 s9 m9 args9 below9 meth9 c9 A9 ls cx htab hw hl
    have hx := cx.1
    have hb := cx.2.1
    have hts := cx.2.2.2.2.1
    have hK := cx.2.2.2.2.2.2.2.1
    have hl : lv_has ls 6 [(0, .ref (a 0)), (1, .int n)] := hl
    refine lv_iload_n hx hb dX9_hush_0 rfl (lv_at hl 1 rfl) ?_
    refine lv_iconst (v := 0) hx hb dX9_hush_1 (by decide) ?_
    refine lv_bipush (v := 48) hx hb dX9_hush_2 (by decide) ?_
    refine r_det (r_S cx hw (kX9_wrongBy l hl9 g n 0 48) (va_cwS 3 hts (lw_S q1318 q1319 q94 q1320) rfl rfl rfl (by decide +kernel) ⟨Nat.le_of_ble_eq_true rfl, Nat.le_of_ble_eq_true rfl⟩) [] rfl rfl rfl hl.1 rfl (Nat.le_of_ble_eq_true rfl) dX9_hush_4 ⟨Nat.le_of_ble_eq_true rfl, Nat.le_of_ble_eq_true rfl⟩) cx hw [] rfl rfl rfl (ws' := WM g a s m im wa L R rf nu hi lm rn pl sd) (rfl) (fun H locs hw => ?_)
    refine W.eq (g2 := F0 m9 7 ls [.int (wrF n 0 48)]) rfl ?_
    refine lv_istore_n (lv' := [(2, .int (wrF n 0 48)), (0, .ref (a 0)), (1, .int n)]) hx hb dX9_hush_7 rfl hl (by decide) rfl (fun ls hl => ?_)
    refine lv_iload_n hx hb dX9_hush_8 rfl (lv_at hl 0 rfl) ?_
    refine lv_if_eq (tgt := 18) hx hb dX9_hush_9 (by decide) (fun c_9 => absurd c_9 hwr_n) (fun c_9 => ?_)
    refine lv_aload_n hx hb dX9_hush_12 rfl (lv_at hl 1 rfl) ?_
    refine lv_iload_n hx hb dX9_hush_13 rfl (lv_at hl 0 rfl) ?_
    refine r_det (r_V cx hw (kX9_no l hl9 g a s m im wa L R rf nu hi lm rn pl sd (wrF n 0 48) (wrF_ok hwr_n)) (cwV 1 hts (lw_V q1213 q1215 qs65 q94 q1216) rfl rfl rfl (by decide +kernel) ⟨Nat.le_of_ble_eq_true rfl, Nat.le_of_ble_eq_true rfl⟩) (r_recv hK hw (k := 0) (ci := 8) rfl rfl) [0, 1, 2, 3, 4, 5, 6, 7, 8] rfl rfl rfl hl.1 rfl (Nat.le_of_ble_eq_true rfl) dX9_hush_14 ⟨Nat.le_of_ble_eq_true rfl, Nat.le_of_ble_eq_true rfl⟩) cx hw [0, 1, 2, 3, 4, 5, 6, 7, 8] rfl rfl rfl (ws' := WM g a s m im wa L R (rfU rf (wrF n 0 48)) nu hi lm rn pl sd) (rfl) (fun H locs hw => ?_)
    refine W.eq (g2 := F0 m9 17 ls [.int (wrF n 0 48)]) rfl ?_
    exact r_iret cx hw (⟨_, by rw [ans_n hne, hW], by rw [rfA_n hne, hW]⟩) (Nat.le_of_ble_eq_true rfl) (Nat.le_of_ble_eq_true rfl) dX9_hush_17

set_option maxHeartbeats 4000000 in
set_option maxRecDepth 100000 in
theorem kX9_word (l : Launch) (hl9 : l.stackTraces = false) (g : GG) (a : Nat → Nat) (s m im wa L R rf nu : Nat → Int32) (hi lm rn pl sd : Int32) (hI : InvM s) (n : Int32) : MC l yX9_word cX9_word 6 (some .int) 6 132 0 0 g [.ref (a 0), .int n] (WM g a s m im wa L R rf nu hi lm rn pl sd) (rtE (α := Nat → Int32) (some (.int (ans (wrF n 1 24) ((woA s (tN n) (nN s)).1)))) (fun x9 => WM g a s x9 im wa L R (rfA (wrF n 1 24) rf) nu hi lm rn pl sd)) (noX) := by
  by_cases hwr_n : wrF n 1 24 = 0
  · skip
    obtain ⟨q, hq, rfl⟩ := nI_rng (M := 24) (by decide) (Int32.le_trans (by decide) (wrF_0 hwr_n).1) (wrF_0 hwr_n).2
    have eq : tN (nI q) = q := tN_nI (by omega)
    have hW : wrF (nI q) 1 24 = 0 := hwr_n
    refine MC.of (by decide) (Nat.le_of_ble_eq_true rfl) ?_
    intro p9 e9 s9 m9 args9 below9 meth9 c9 A9 ls cx htab hw hl
    have hx := cx.1
    have hb := cx.2.1
    have hts := cx.2.2.2.2.1
    have hK := cx.2.2.2.2.2.2.2.1
    have hl : lv_has ls 6 [(0, .ref (a 0)), (1, .int (nI q))] := hl
    have hN := hI.1
    have J : ∀ (n9 j : Nat) (mm : Nat → Int32), j ≤ nN s → nN s < n9 + j → ∀ (H : Heap) (locs : List Loc) (ls : Array Slot), WS g A9 s9.heap (WM g a s mm im wa L R rf nu hi lm rn pl sd) H locs → lv_has ls 6 [(0, .ref (a 0)), (1, .int (nI q)), (3, .int ((woA s q j).2)), (4, .int ((woA s q j).1)), (5, .int (nI j))] → W p9 l e9 (rmC 6 132 0 0) s9 m9 args9 below9 meth9 c9 H locs 0 0 (vx_MQ below9 (PostA g A9 (rtE (α := Nat → Int32) (some (.int (ans (wrF (nI q) 1 24) ((woA s (tN (nI q)) (nN s)).1)))) (fun x9 => WM g a s x9 im wa L R (rfA (wrF (nI q) 1 24) rf) nu hi lm rn pl sd))) (PxA g A9 (pxR (noX))) args9 s9 0 0 A9) (F0 m9 38 ls []) := by
      intro n9
      induction n9 with
      | zero => intro j mm hj hk9; exact absurd hk9 (by omega)
      | succ n9 ih_J =>
        intro j mm hj hk9  H locs ls hw hl
        refine lv_iload hx hb dX9_word_38 (lv_at hl 4 rfl) ?_
        refine lv_aload_n hx hb dX9_word_40 rfl (lv_at hl 0 rfl) ?_
        refine r_get cx hw in_X9 0 (ci := 8) (T := TX9) (N := 13) rfl rfl 0 (by decide) q1169 (fun _ h9 => h9) rfl dX9_word_41 ?_
        refine lv_iconst (v := 0) hx hb dX9_word_44 (by decide) ?_
        refine r_iald cx hw 1 rfl 0 rfl (by omega) (Nat.le_of_ble_eq_true rfl) dX9_word_45 ?_
        refine r_topi (x' := nI (nN s)) (hI.2.1) ?_
        refine lv_icmp_ge (tgt := 112) hx hb dX9_word_46 (by decide) (fun c_46 => ?_) (fun c_46 => ?_)
        · skip
          have c_46 : (nN s) ≤ j := (nI_leI (a := (nN s)) (b := j) (by omega) (by omega)).mp c_46
          refine lv_iload hx hb dX9_word_112 (lv_at hl 3 rfl) ?_
          exact r_iret cx hw (⟨_, by rw [hW, ans_0, eq, show j = nN s by omega], by rw [hW, rfA_0]⟩) (Nat.le_of_ble_eq_true rfl) (Nat.le_of_ble_eq_true rfl) dX9_word_114
        · skip
          have c_46 : j < (nN s) := Nat.not_le.mp (fun h9 => c_46 ((nI_leI (a := (nN s)) (b := j) (by omega) (by omega)).mpr h9))
          refine lv_aload_n hx hb dX9_word_49 rfl (lv_at hl 0 rfl) ?_
          refine r_get cx hw in_X9 0 (ci := 8) (T := TX9) (N := 13) rfl rfl 0 (by decide) q1169 (fun _ h9 => h9) rfl dX9_word_50 ?_
          refine lv_aload_n hx hb dX9_word_53 rfl (lv_at hl 0 rfl) ?_
          refine r_get cx hw in_X9 0 (ci := 8) (T := TX9) (N := 13) rfl rfl 1 (by decide) q1170 (fun _ h9 => h9) rfl dX9_word_54 ?_
          refine r_det (r_S cx hw (kX9_copies l hl9 g (a 1) (a 2) s mm) (va_cwS 2 hts (lw_S q1243 q1244 q94 q1245) rfl rfl rfl (by decide +kernel) ⟨Nat.le_of_ble_eq_true rfl, Nat.le_of_ble_eq_true rfl⟩) [1, 2] rfl rfl rfl hl.1 rfl (Nat.le_of_ble_eq_true rfl) dX9_word_57 ⟨Nat.le_of_ble_eq_true rfl, Nat.le_of_ble_eq_true rfl⟩) cx hw [1, 2] rfl rfl rfl (ws' := WM g a s s im wa L R rf nu hi lm rn pl sd) (rfl) (fun H locs hw => ?_)
          refine W.eq (g2 := F0 m9 60 ls []) rfl ?_
          refine lv_aload_n hx hb dX9_word_60 rfl (lv_at hl 0 rfl) ?_
          refine r_get cx hw in_X9 0 (ci := 8) (T := TX9) (N := 13) rfl rfl 1 (by decide) q1170 (fun _ h9 => h9) rfl dX9_word_61 ?_
          refine lv_iload hx hb dX9_word_64 (lv_at hl 4 rfl) ?_
          refine lv_iconst (v := 4) hx hb dX9_word_66 (by decide) ?_
          refine r_det (r_S cx hw (kX9_of l hl9 g j 4) (va_cwS 2 hts (lw_S q1254 q1255 q94 q1256) rfl rfl rfl (by decide +kernel) ⟨Nat.le_of_ble_eq_true rfl, Nat.le_of_ble_eq_true rfl⟩) [] rfl rfl rfl hl.1 rfl (Nat.le_of_ble_eq_true rfl) dX9_word_67 ⟨Nat.le_of_ble_eq_true rfl, Nat.le_of_ble_eq_true rfl⟩) cx hw [] rfl rfl rfl (ws' := WM g a s s im wa L R rf nu hi lm rn pl sd) (rfl) (fun H locs hw => ?_)
          refine W.eq (g2 := F0 m9 70 ls [.int (nI (5 + 7 * j + 4)), .ref (a 2)]) rfl ?_
          refine lv_iconst (v := 1) hx hb dX9_word_70 (by decide) ?_
          refine r_iast cx hw 2 rfl (5 + 7 * j + 4) rfl (by omega) (Nat.le_of_ble_eq_true rfl) dX9_word_71 (fun H locs hw => ?_)
          have hw : WS g A9 s9.heap (WM g a s (upd s (5 + 7 * j + 4) 1) im wa L R rf nu hi lm rn pl sd) H locs := hw
          refine lv_aload_n hx hb dX9_word_72 rfl (lv_at hl 0 rfl) ?_
          refine r_get cx hw in_X9 0 (ci := 8) (T := TX9) (N := 13) rfl rfl 1 (by decide) q1170 (fun _ h9 => h9) rfl dX9_word_73 ?_
          refine lv_iload_n hx hb dX9_word_76 rfl (lv_at hl 1 rfl) ?_
          refine r_det (r_S cx hw (kX9_hoursOn l hl9 g (a 2) (upd s (5 + 7 * j + 4) 1) (InvM_upd hI (by omega) (fun j => by omega)) q (by omega)) (va_cwS 2 hts (lw_S q1261 q1262 q94 q1263) rfl rfl rfl (by decide +kernel) ⟨Nat.le_of_ble_eq_true rfl, Nat.le_of_ble_eq_true rfl⟩) [2] rfl rfl rfl hl.1 rfl (Nat.le_of_ble_eq_true rfl) dX9_word_77 ⟨Nat.le_of_ble_eq_true rfl, Nat.le_of_ble_eq_true rfl⟩) cx hw [2] rfl rfl rfl (ws' := WM g a s (hoursF (upd s (5 + 7 * j + 4) 1) q) im wa L R rf nu hi lm rn pl sd) (rfl) (fun H locs hw => ?_)
          refine W.eq (g2 := F0 m9 80 ls []) rfl ?_
          refine lv_aload_n hx hb dX9_word_80 rfl (lv_at hl 0 rfl) ?_
          refine r_get cx hw in_X9 0 (ci := 8) (T := TX9) (N := 13) rfl rfl 1 (by decide) q1170 (fun _ h9 => h9) rfl dX9_word_81 ?_
          refine r_det (r_S cx hw (kX9_allHave l hl9 g (a 2) (hoursF (upd s (5 + 7 * j + 4) 1) q) ((InvM_upd hI (by omega) (fun j => by omega)).hours q)) (va_cwS 1 hts (lw_S q1357 q1358 q94 q1359) rfl rfl rfl (by decide +kernel) ⟨Nat.le_of_ble_eq_true rfl, Nat.le_of_ble_eq_true rfl⟩) [2] rfl rfl rfl hl.1 rfl (Nat.le_of_ble_eq_true rfl) dX9_word_84 ⟨Nat.le_of_ble_eq_true rfl, Nat.le_of_ble_eq_true rfl⟩) cx hw [2] rfl rfl rfl (ws' := WM g a s (hoursF (upd s (5 + 7 * j + 4) 1) q) im wa L R rf nu hi lm rn pl sd) (rfl) (fun H locs hw => ?_)
          refine W.eq (g2 := F0 m9 87 ls [.int (allF (hoursF (upd s (5 + 7 * j + 4) 1) q))]) rfl ?_
          refine lv_iload_n hx hb dX9_word_87 rfl (lv_at hl 2 rfl) ?_
          refine lv_icmp_lt (tgt := 94) hx hb dX9_word_88 (by decide) (fun c_88 => ?_) (fun c_88 => ?_)
          · skip
            have c_88N := Int32.not_le.mpr c_88
            refine lv_iload hx hb dX9_word_94 (lv_at hl 4 rfl) ?_
            refine lv_istore (lv' := [(4, .int (nI j)), (0, .ref (a 0)), (1, .int (nI q)), (3, .int ((woA s q j).2)), (5, .int (nI j))]) hx hb dX9_word_96 hl (by decide) rfl (fun ls hl => ?_)
            refine lv_aload_n hx hb dX9_word_98 rfl (lv_at hl 1 rfl) ?_
            refine r_get cx hw in_X9 0 (ci := 8) (T := TX9) (N := 13) rfl rfl 1 (by decide) q1170 (fun _ h9 => h9) rfl dX9_word_99 ?_
            refine r_det (r_S cx hw (kX9_allHave l hl9 g (a 2) (hoursF (upd s (5 + 7 * j + 4) 1) q) ((InvM_upd hI (by omega) (fun j => by omega)).hours q)) (va_cwS 1 hts (lw_S q1357 q1358 q94 q1359) rfl rfl rfl (by decide +kernel) ⟨Nat.le_of_ble_eq_true rfl, Nat.le_of_ble_eq_true rfl⟩) [2] rfl rfl rfl hl.1 rfl (Nat.le_of_ble_eq_true rfl) dX9_word_102 ⟨Nat.le_of_ble_eq_true rfl, Nat.le_of_ble_eq_true rfl⟩) cx hw [2] rfl rfl rfl (ws' := WM g a s (hoursF (upd s (5 + 7 * j + 4) 1) q) im wa L R rf nu hi lm rn pl sd) (rfl) (fun H locs hw => ?_)
            refine W.eq (g2 := F0 m9 105 ls [.int (allF (hoursF (upd s (5 + 7 * j + 4) 1) q))]) rfl ?_
            refine lv_istore_n (lv' := [(3, .int (allF (hoursF (upd s (5 + 7 * j + 4) 1) q))), (4, .int (nI j)), (0, .ref (a 0)), (1, .int (nI q)), (5, .int (nI j))]) hx hb dX9_word_105 rfl hl (by decide) rfl (fun ls hl => ?_)
            refine lv_iinc (v := nI (j + 1)) (lv' := [(5, .int (nI (j + 1))), (3, .int (allF (hoursF (upd s (5 + 7 * j + 4) 1) q))), (4, .int (nI j)), (0, .ref (a 0)), (1, .int (nI q))]) hx hb dX9_word_106 hl (k := 4) rfl (nI_1 j) (by decide) rfl (fun ls hl => ?_)
            refine lv_goto (tgt := 38) hx hb dX9_word_109 (by decide) ?_
            have e9 : woA s q (j + 1) = (nI j, woV s q j) := by
              show mnS (woV s q) j (woA s q j) = _
              rw [mnS]; exact if_neg (Int32.not_le.mpr c_88)
            exact ih_J (j + 1) (hoursF (upd s (5 + 7 * j + 4) 1) q) (by omega) (by omega)  _ _ _ (hw) (by rw [e9]; exact lv_sub hl [3, 4, 1, 2, 0] rfl)
          · skip
            have c_88N := Int32.not_lt.mp c_88
            refine lv_goto (tgt := 106) hx hb dX9_word_91 (by decide) ?_
            refine lv_iinc (v := nI (j + 1)) (lv' := [(5, .int (nI (j + 1))), (0, .ref (a 0)), (1, .int (nI q)), (3, .int ((woA s q j).2)), (4, .int ((woA s q j).1))]) hx hb dX9_word_106 hl (k := 4) rfl (nI_1 j) (by decide) rfl (fun ls hl => ?_)
            refine lv_goto (tgt := 38) hx hb dX9_word_109 (by decide) ?_
            have e9 : woA s q (j + 1) = woA s q j := by
              show mnS (woV s q) j (woA s q j) = _
              rw [mnS]; exact if_pos (Int32.not_lt.mp c_88)
            exact ih_J (j + 1) (hoursF (upd s (5 + 7 * j + 4) 1) q) (by omega) (by omega)  _ _ _ (hw) (by rw [e9]; exact lv_sub hl [1, 2, 3, 4, 0] rfl)
    refine lv_iload_n hx hb dX9_word_0 rfl (lv_at hl 1 rfl) ?_
    refine lv_iconst (v := 1) hx hb dX9_word_1 (by decide) ?_
    refine lv_bipush (v := 24) hx hb dX9_word_2 (by decide) ?_
    refine r_det (r_S cx hw (kX9_wrongBy l hl9 g (nI q) 1 24) (va_cwS 3 hts (lw_S q1318 q1319 q94 q1320) rfl rfl rfl (by decide +kernel) ⟨Nat.le_of_ble_eq_true rfl, Nat.le_of_ble_eq_true rfl⟩) [] rfl rfl rfl hl.1 rfl (Nat.le_of_ble_eq_true rfl) dX9_word_4 ⟨Nat.le_of_ble_eq_true rfl, Nat.le_of_ble_eq_true rfl⟩) cx hw [] rfl rfl rfl (ws' := WM g a s m im wa L R rf nu hi lm rn pl sd) (rfl) (fun H locs hw => ?_)
    refine W.eq (g2 := F0 m9 7 ls [.int (wrF (nI q) 1 24)]) rfl ?_
    refine lv_istore_n (lv' := [(2, .int (wrF (nI q) 1 24)), (0, .ref (a 0)), (1, .int (nI q))]) hx hb dX9_word_7 rfl hl (by decide) rfl (fun ls hl => ?_)
    refine lv_iload_n hx hb dX9_word_8 rfl (lv_at hl 0 rfl) ?_
    refine lv_if_eq (tgt := 18) hx hb dX9_word_9 (by decide) (fun c_9 => ?_) (fun c_9 => absurd hwr_n c_9)
    refine lv_aload_n hx hb dX9_word_18 rfl (lv_at hl 1 rfl) ?_
    refine lv_iload_n hx hb dX9_word_19 rfl (lv_at hl 2 rfl) ?_
    refine r_det (r_V cx hw (kX9_takes l hl9 g a s m im wa L R rf nu hi lm rn pl sd hI q (by omega)) (cwV 1 hts (lw_V q1349 q1351 qs76 q94 q1352) rfl rfl rfl (by decide +kernel) ⟨Nat.le_of_ble_eq_true rfl, Nat.le_of_ble_eq_true rfl⟩) (r_recv hK hw (k := 0) (ci := 8) rfl rfl) [0, 1, 2, 3, 4, 5, 6, 7, 8] rfl rfl rfl hl.1 rfl (Nat.le_of_ble_eq_true rfl) dX9_word_20 ⟨Nat.le_of_ble_eq_true rfl, Nat.le_of_ble_eq_true rfl⟩) cx hw [0, 1, 2, 3, 4, 5, 6, 7, 8] rfl rfl rfl (ws' := WM g a s (hoursF s q) im wa L R rf nu hi lm rn pl sd) (rfl) (fun H locs hw => ?_)
    refine W.eq (g2 := F0 m9 23 ls []) rfl ?_
    refine lv_aload_n hx hb dX9_word_23 rfl (lv_at hl 1 rfl) ?_
    refine r_get cx hw in_X9 0 (ci := 8) (T := TX9) (N := 13) rfl rfl 1 (by decide) q1170 (fun _ h9 => h9) rfl dX9_word_24 ?_
    refine r_det (r_S cx hw (kX9_allHave l hl9 g (a 2) (hoursF s q) (hI.hours q)) (va_cwS 1 hts (lw_S q1357 q1358 q94 q1359) rfl rfl rfl (by decide +kernel) ⟨Nat.le_of_ble_eq_true rfl, Nat.le_of_ble_eq_true rfl⟩) [2] rfl rfl rfl hl.1 rfl (Nat.le_of_ble_eq_true rfl) dX9_word_27 ⟨Nat.le_of_ble_eq_true rfl, Nat.le_of_ble_eq_true rfl⟩) cx hw [2] rfl rfl rfl (ws' := WM g a s (hoursF s q) im wa L R rf nu hi lm rn pl sd) (rfl) (fun H locs hw => ?_)
    refine W.eq (g2 := F0 m9 30 ls [.int (allF (hoursF s q))]) rfl ?_
    refine lv_istore_n (lv' := [(3, .int (allF (hoursF s q))), (2, .int (wrF (nI q) 1 24)), (0, .ref (a 0)), (1, .int (nI q))]) hx hb dX9_word_30 rfl hl (by decide) rfl (fun ls hl => ?_)
    refine lv_bipush (v := (-9)) hx hb dX9_word_31 (by decide) ?_
    refine lv_istore (lv' := [(4, .int (-9)), (3, .int (allF (hoursF s q))), (2, .int (wrF (nI q) 1 24)), (0, .ref (a 0)), (1, .int (nI q))]) hx hb dX9_word_33 hl (by decide) rfl (fun ls hl => ?_)
    refine lv_iconst (v := 0) hx hb dX9_word_35 (by decide) ?_
    refine lv_istore (lv' := [(5, .int 0), (4, .int (-9)), (3, .int (allF (hoursF s q))), (2, .int (wrF (nI q) 1 24)), (0, .ref (a 0)), (1, .int (nI q))]) hx hb dX9_word_36 hl (by decide) rfl (fun ls hl => ?_)
    exact J (nN s + 1) 0 (hoursF s q) (by omega) (by omega)  _ _ _ (hw) (lv_sub hl [4, 5, 2, 1, 0] rfl)
  · skip
    have hW : wrF n 1 24 = wrF n 1 24 := rfl
    have hne : ¬ wrF n 1 24 = 0 := by rw [hW]; exact hwr_n
    refine MC.of (by decide) (Nat.le_of_ble_eq_true rfl) ?_
    intro p9 e9 s9 m9 args9 below9 meth9 c9 A9 ls cx htab hw hl
    have hx := cx.1
    have hb := cx.2.1
    have hts := cx.2.2.2.2.1
    have hK := cx.2.2.2.2.2.2.2.1
    have hl : lv_has ls 6 [(0, .ref (a 0)), (1, .int n)] := hl
    refine lv_iload_n hx hb dX9_word_0 rfl (lv_at hl 1 rfl) ?_
    refine lv_iconst (v := 1) hx hb dX9_word_1 (by decide) ?_
    refine lv_bipush (v := 24) hx hb dX9_word_2 (by decide) ?_
    refine r_det (r_S cx hw (kX9_wrongBy l hl9 g n 1 24) (va_cwS 3 hts (lw_S q1318 q1319 q94 q1320) rfl rfl rfl (by decide +kernel) ⟨Nat.le_of_ble_eq_true rfl, Nat.le_of_ble_eq_true rfl⟩) [] rfl rfl rfl hl.1 rfl (Nat.le_of_ble_eq_true rfl) dX9_word_4 ⟨Nat.le_of_ble_eq_true rfl, Nat.le_of_ble_eq_true rfl⟩) cx hw [] rfl rfl rfl (ws' := WM g a s m im wa L R rf nu hi lm rn pl sd) (rfl) (fun H locs hw => ?_)
    refine W.eq (g2 := F0 m9 7 ls [.int (wrF n 1 24)]) rfl ?_
    refine lv_istore_n (lv' := [(2, .int (wrF n 1 24)), (0, .ref (a 0)), (1, .int n)]) hx hb dX9_word_7 rfl hl (by decide) rfl (fun ls hl => ?_)
    refine lv_iload_n hx hb dX9_word_8 rfl (lv_at hl 0 rfl) ?_
    refine lv_if_eq (tgt := 18) hx hb dX9_word_9 (by decide) (fun c_9 => absurd c_9 hwr_n) (fun c_9 => ?_)
    refine lv_aload_n hx hb dX9_word_12 rfl (lv_at hl 1 rfl) ?_
    refine lv_iload_n hx hb dX9_word_13 rfl (lv_at hl 0 rfl) ?_
    refine r_det (r_V cx hw (kX9_no l hl9 g a s m im wa L R rf nu hi lm rn pl sd (wrF n 1 24) (wrF_ok hwr_n)) (cwV 1 hts (lw_V q1213 q1215 qs65 q94 q1216) rfl rfl rfl (by decide +kernel) ⟨Nat.le_of_ble_eq_true rfl, Nat.le_of_ble_eq_true rfl⟩) (r_recv hK hw (k := 0) (ci := 8) rfl rfl) [0, 1, 2, 3, 4, 5, 6, 7, 8] rfl rfl rfl hl.1 rfl (Nat.le_of_ble_eq_true rfl) dX9_word_14 ⟨Nat.le_of_ble_eq_true rfl, Nat.le_of_ble_eq_true rfl⟩) cx hw [0, 1, 2, 3, 4, 5, 6, 7, 8] rfl rfl rfl (ws' := WM g a s m im wa L R (rfU rf (wrF n 1 24)) nu hi lm rn pl sd) (rfl) (fun H locs hw => ?_)
    refine W.eq (g2 := F0 m9 17 ls [.int (wrF n 1 24)]) rfl ?_
    exact r_iret cx hw (⟨_, by rw [ans_n hne, hW], by rw [rfA_n hne, hW]⟩) (Nat.le_of_ble_eq_true rfl) (Nat.le_of_ble_eq_true rfl) dX9_word_17

set_option maxHeartbeats 4000000 in
set_option maxRecDepth 100000 in
theorem kX9_friendBest (l : Launch) (hl9 : l.stackTraces = false) (g : GG) (a : Nat → Nat) (s m im wa L R rf nu : Nat → Int32) (hi lm rn pl sd : Int32) (hI : InvM s) (p n : Int32) : MC l yX9_friendBest cX9_friendBest 7 (some .int) 6 132 0 0 g [.ref (a 0), .int p, .int n] (WM g a s m im wa L R rf nu hi lm rn pl sd) (rtE (α := Nat → Int32) (some (.int (ans (wOf s p n 48) ((frA s p (tN n) (nN s)).1)))) (fun x9 => WM g a s x9 im wa L R (rfA (wOf s p n 48) rf) nu hi lm rn pl sd)) (noX) := by
  by_cases hps_p : psB s p = true
  · skip
    obtain ⟨k, hk, rfl⟩ := psB_rng hI hps_p
    have hN := hI.1
    have ek : tN (nI k) = k := tN_nI (by omega)
    by_cases hwr_n : wrF n 0 48 = 0
    · skip
      obtain ⟨q, hq, rfl⟩ := nI_rng (M := 48) (by decide) (Int32.le_trans (by decide) (wrF_0 hwr_n).1) (wrF_0 hwr_n).2
      have eq : tN (nI q) = q := tN_nI (by omega)
      have hW : wOf s (nI k) (nI q) 48 = 0 := by simp [wOf, hps_p, hwr_n]
      refine MC.of (by decide) (Nat.le_of_ble_eq_true rfl) ?_
      intro p9 e9 s9 m9 args9 below9 meth9 c9 A9 ls cx htab hw hl
      have hx := cx.1
      have hb := cx.2.1
      have hts := cx.2.2.2.2.1
      have hK := cx.2.2.2.2.2.2.2.1
      have hl : lv_has ls 7 [(0, .ref (a 0)), (1, .int (nI k)), (2, .int (nI q))] := hl
      have J : ∀ (n9 j : Nat) (mm : Nat → Int32), j ≤ nN s → nN s < n9 + j → ∀ (H : Heap) (locs : List Loc) (ls : Array Slot), WS g A9 s9.heap (WM g a s mm im wa L R rf nu hi lm rn pl sd) H locs → lv_has ls 7 [(0, .ref (a 0)), (1, .int (nI k)), (2, .int (nI q)), (4, .int ((frA s (nI k) q j).2)), (5, .int ((frA s (nI k) q j).1)), (6, .int (nI j))] → W p9 l e9 (rmC 6 132 0 0) s9 m9 args9 below9 meth9 c9 H locs 0 0 (vx_MQ below9 (PostA g A9 (rtE (α := Nat → Int32) (some (.int (ans (wOf s (nI k) (nI q) 48) ((frA s (nI k) (tN (nI q)) (nN s)).1)))) (fun x9 => WM g a s x9 im wa L R (rfA (wOf s (nI k) (nI q) 48) rf) nu hi lm rn pl sd))) (PxA g A9 (pxR (noX))) args9 s9 0 0 A9) (F0 m9 51 ls []) := by
        intro n9
        induction n9 with
        | zero => intro j mm hj hk9; exact absurd hk9 (by omega)
        | succ n9 ih_J =>
          intro j mm hj hk9  H locs ls hw hl
          refine lv_iload hx hb dX9_friendBest_51 (lv_at hl 5 rfl) ?_
          refine lv_aload_n hx hb dX9_friendBest_53 rfl (lv_at hl 0 rfl) ?_
          refine r_get cx hw in_X9 0 (ci := 8) (T := TX9) (N := 13) rfl rfl 0 (by decide) q1169 (fun _ h9 => h9) rfl dX9_friendBest_54 ?_
          refine lv_iconst (v := 0) hx hb dX9_friendBest_57 (by decide) ?_
          refine r_iald cx hw 1 rfl 0 rfl (by omega) (Nat.le_of_ble_eq_true rfl) dX9_friendBest_58 ?_
          refine r_topi (x' := nI (nN s)) (hI.2.1) ?_
          refine lv_icmp_ge (tgt := 137) hx hb dX9_friendBest_59 (by decide) (fun c_59 => ?_) (fun c_59 => ?_)
          · skip
            have c_59 : (nN s) ≤ j := (nI_leI (a := (nN s)) (b := j) (by omega) (by omega)).mp c_59
            refine lv_iload hx hb dX9_friendBest_137 (lv_at hl 4 rfl) ?_
            exact r_iret cx hw (⟨_, by rw [hW, ans_0, eq, show j = nN s by omega], by rw [hW, rfA_0]⟩) (Nat.le_of_ble_eq_true rfl) (Nat.le_of_ble_eq_true rfl) dX9_friendBest_139
          · skip
            have c_59 : j < (nN s) := Nat.not_le.mp (fun h9 => c_59 ((nI_leI (a := (nN s)) (b := j) (by omega) (by omega)).mpr h9))
            refine lv_iload hx hb dX9_friendBest_62 (lv_at hl 5 rfl) ?_
            refine lv_iload_n hx hb dX9_friendBest_64 rfl (lv_at hl 1 rfl) ?_
            refine lv_icmp_ne (tgt := 71) hx hb dX9_friendBest_65 (by decide) (fun c_65 => ?_) (fun c_65 => ?_)
            · skip
              have c_65 : ¬ j = k := fun h9 => c_65 ((nI_eq (a := j) (b := k) (by omega) (by omega)).mpr h9)
              refine lv_aload_n hx hb dX9_friendBest_71 rfl (lv_at hl 0 rfl) ?_
              refine r_get cx hw in_X9 0 (ci := 8) (T := TX9) (N := 13) rfl rfl 0 (by decide) q1169 (fun _ h9 => h9) rfl dX9_friendBest_72 ?_
              refine lv_aload_n hx hb dX9_friendBest_75 rfl (lv_at hl 0 rfl) ?_
              refine r_get cx hw in_X9 0 (ci := 8) (T := TX9) (N := 13) rfl rfl 1 (by decide) q1170 (fun _ h9 => h9) rfl dX9_friendBest_76 ?_
              refine r_det (r_S cx hw (kX9_copies l hl9 g (a 1) (a 2) s mm) (va_cwS 2 hts (lw_S q1243 q1244 q94 q1245) rfl rfl rfl (by decide +kernel) ⟨Nat.le_of_ble_eq_true rfl, Nat.le_of_ble_eq_true rfl⟩) [1, 2] rfl rfl rfl hl.1 rfl (Nat.le_of_ble_eq_true rfl) dX9_friendBest_79 ⟨Nat.le_of_ble_eq_true rfl, Nat.le_of_ble_eq_true rfl⟩) cx hw [1, 2] rfl rfl rfl (ws' := WM g a s s im wa L R rf nu hi lm rn pl sd) (rfl) (fun H locs hw => ?_)
              refine W.eq (g2 := F0 m9 82 ls []) rfl ?_
              refine lv_aload_n hx hb dX9_friendBest_82 rfl (lv_at hl 0 rfl) ?_
              refine r_get cx hw in_X9 0 (ci := 8) (T := TX9) (N := 13) rfl rfl 1 (by decide) q1170 (fun _ h9 => h9) rfl dX9_friendBest_83 ?_
              refine lv_iload_n hx hb dX9_friendBest_86 rfl (lv_at hl 1 rfl) ?_
              refine lv_bipush (v := 6) hx hb dX9_friendBest_87 (by decide) ?_
              refine r_det (r_S cx hw (kX9_of l hl9 g k 6) (va_cwS 2 hts (lw_S q1254 q1255 q94 q1256) rfl rfl rfl (by decide +kernel) ⟨Nat.le_of_ble_eq_true rfl, Nat.le_of_ble_eq_true rfl⟩) [] rfl rfl rfl hl.1 rfl (Nat.le_of_ble_eq_true rfl) dX9_friendBest_89 ⟨Nat.le_of_ble_eq_true rfl, Nat.le_of_ble_eq_true rfl⟩) cx hw [] rfl rfl rfl (ws' := WM g a s s im wa L R rf nu hi lm rn pl sd) (rfl) (fun H locs hw => ?_)
              refine W.eq (g2 := F0 m9 92 ls [.int (nI (5 + 7 * k + 6)), .ref (a 2)]) rfl ?_
              refine lv_iload hx hb dX9_friendBest_92 (lv_at hl 5 rfl) ?_
              refine r_iast cx hw 2 rfl (5 + 7 * k + 6) rfl (by omega) (Nat.le_of_ble_eq_true rfl) dX9_friendBest_94 (fun H locs hw => ?_)
              have hw : WS g A9 s9.heap (WM g a s (upd s (5 + 7 * k + 6) (nI j)) im wa L R rf nu hi lm rn pl sd) H locs := hw
              refine lv_aload_n hx hb dX9_friendBest_95 rfl (lv_at hl 0 rfl) ?_
              refine r_get cx hw in_X9 0 (ci := 8) (T := TX9) (N := 13) rfl rfl 1 (by decide) q1170 (fun _ h9 => h9) rfl dX9_friendBest_96 ?_
              refine lv_iload_n hx hb dX9_friendBest_99 rfl (lv_at hl 2 rfl) ?_
              refine r_det (r_S cx hw (kX9_hoursOn l hl9 g (a 2) (upd s (5 + 7 * k + 6) (nI j)) (InvM_updF hI (k := k) (show j < 6 by omega)) q (by omega)) (va_cwS 2 hts (lw_S q1261 q1262 q94 q1263) rfl rfl rfl (by decide +kernel) ⟨Nat.le_of_ble_eq_true rfl, Nat.le_of_ble_eq_true rfl⟩) [2] rfl rfl rfl hl.1 rfl (Nat.le_of_ble_eq_true rfl) dX9_friendBest_100 ⟨Nat.le_of_ble_eq_true rfl, Nat.le_of_ble_eq_true rfl⟩) cx hw [2] rfl rfl rfl (ws' := WM g a s (hoursF (upd s (5 + 7 * k + 6) (nI j)) q) im wa L R rf nu hi lm rn pl sd) (rfl) (fun H locs hw => ?_)
              refine W.eq (g2 := F0 m9 103 ls []) rfl ?_
              refine lv_aload_n hx hb dX9_friendBest_103 rfl (lv_at hl 0 rfl) ?_
              refine r_get cx hw in_X9 0 (ci := 8) (T := TX9) (N := 13) rfl rfl 1 (by decide) q1170 (fun _ h9 => h9) rfl dX9_friendBest_104 ?_
              refine r_det (r_S cx hw (kX9_leastHas l hl9 g (a 2) (hoursF (upd s (5 + 7 * k + 6) (nI j)) q) ((InvM_updF hI (k := k) (show j < 6 by omega)).hours q)) (va_cwS 1 hts (lw_S q1396 q1397 q94 q1398) rfl rfl rfl (by decide +kernel) ⟨Nat.le_of_ble_eq_true rfl, Nat.le_of_ble_eq_true rfl⟩) [2] rfl rfl rfl hl.1 rfl (Nat.le_of_ble_eq_true rfl) dX9_friendBest_107 ⟨Nat.le_of_ble_eq_true rfl, Nat.le_of_ble_eq_true rfl⟩) cx hw [2] rfl rfl rfl (ws' := WM g a s (hoursF (upd s (5 + 7 * k + 6) (nI j)) q) im wa L R rf nu hi lm rn pl sd) (rfl) (fun H locs hw => ?_)
              refine W.eq (g2 := F0 m9 110 ls [.int (lstF (hoursF (upd s (5 + 7 * k + 6) (nI j)) q))]) rfl ?_
              refine lv_iload hx hb dX9_friendBest_110 (lv_at hl 3 rfl) ?_
              refine lv_icmp_gt (tgt := 118) hx hb dX9_friendBest_112 (by decide) (fun c_112 => ?_) (fun c_112 => ?_)
              · skip
                have c_112N := Int32.not_le.mpr c_112
                refine lv_iload hx hb dX9_friendBest_118 (lv_at hl 5 rfl) ?_
                refine lv_istore (lv' := [(5, .int (nI j)), (0, .ref (a 0)), (1, .int (nI k)), (2, .int (nI q)), (4, .int ((frA s (nI k) q j).2)), (6, .int (nI j))]) hx hb dX9_friendBest_120 hl (by decide) rfl (fun ls hl => ?_)
                refine lv_aload_n hx hb dX9_friendBest_122 rfl (lv_at hl 1 rfl) ?_
                refine r_get cx hw in_X9 0 (ci := 8) (T := TX9) (N := 13) rfl rfl 1 (by decide) q1170 (fun _ h9 => h9) rfl dX9_friendBest_123 ?_
                refine r_det (r_S cx hw (kX9_leastHas l hl9 g (a 2) (hoursF (upd s (5 + 7 * k + 6) (nI j)) q) ((InvM_updF hI (k := k) (show j < 6 by omega)).hours q)) (va_cwS 1 hts (lw_S q1396 q1397 q94 q1398) rfl rfl rfl (by decide +kernel) ⟨Nat.le_of_ble_eq_true rfl, Nat.le_of_ble_eq_true rfl⟩) [2] rfl rfl rfl hl.1 rfl (Nat.le_of_ble_eq_true rfl) dX9_friendBest_126 ⟨Nat.le_of_ble_eq_true rfl, Nat.le_of_ble_eq_true rfl⟩) cx hw [2] rfl rfl rfl (ws' := WM g a s (hoursF (upd s (5 + 7 * k + 6) (nI j)) q) im wa L R rf nu hi lm rn pl sd) (rfl) (fun H locs hw => ?_)
                refine W.eq (g2 := F0 m9 129 ls [.int (lstF (hoursF (upd s (5 + 7 * k + 6) (nI j)) q))]) rfl ?_
                refine lv_istore (lv' := [(4, .int (lstF (hoursF (upd s (5 + 7 * k + 6) (nI j)) q))), (5, .int (nI j)), (0, .ref (a 0)), (1, .int (nI k)), (2, .int (nI q)), (6, .int (nI j))]) hx hb dX9_friendBest_129 hl (by decide) rfl (fun ls hl => ?_)
                refine lv_iinc (v := nI (j + 1)) (lv' := [(6, .int (nI (j + 1))), (4, .int (lstF (hoursF (upd s (5 + 7 * k + 6) (nI j)) q))), (5, .int (nI j)), (0, .ref (a 0)), (1, .int (nI k)), (2, .int (nI q))]) hx hb dX9_friendBest_131 hl (k := 5) rfl (nI_1 j) (by decide) rfl (fun ls hl => ?_)
                refine lv_goto (tgt := 51) hx hb dX9_friendBest_134 (by decide) ?_
                have c_112 : (frA s (nI k) q j).2 < frV s (nI k) q j := by rw [frV, ek]; exact c_112
                have e9 : frA s (nI k) q (j + 1) = (nI j, lstF (hoursF (upd s (5 + 7 * k + 6) (nI j)) q)) := by
                  show frS s (nI k) q j (frA s (nI k) q j) = _
                  rw [frS, if_neg (fun h9 => c_65 ((nI_eq (a := j) (b := k) (by omega) (by omega)).mp h9))]; rw [mxS, if_neg (Int32.not_le.mpr c_112)]; rw [frV, ek]
                exact ih_J (j + 1) (hoursF (upd s (5 + 7 * k + 6) (nI j)) q) (by omega) (by omega)  _ _ _ (hw) (by rw [e9]; exact lv_sub hl [3, 4, 5, 1, 2, 0] rfl)
              · skip
                have c_112N := Int32.not_lt.mp c_112
                refine lv_goto (tgt := 131) hx hb dX9_friendBest_115 (by decide) ?_
                refine lv_iinc (v := nI (j + 1)) (lv' := [(6, .int (nI (j + 1))), (0, .ref (a 0)), (1, .int (nI k)), (2, .int (nI q)), (4, .int ((frA s (nI k) q j).2)), (5, .int ((frA s (nI k) q j).1))]) hx hb dX9_friendBest_131 hl (k := 5) rfl (nI_1 j) (by decide) rfl (fun ls hl => ?_)
                refine lv_goto (tgt := 51) hx hb dX9_friendBest_134 (by decide) ?_
                have c_112 : ¬ (frA s (nI k) q j).2 < frV s (nI k) q j := by rw [frV, ek]; exact c_112
                have e9 : frA s (nI k) q (j + 1) = frA s (nI k) q j := by
                  show frS s (nI k) q j (frA s (nI k) q j) = _
                  rw [frS, if_neg (fun h9 => c_65 ((nI_eq (a := j) (b := k) (by omega) (by omega)).mp h9))]; rw [mxS, if_pos (Int32.not_lt.mp c_112)]
                exact ih_J (j + 1) (hoursF (upd s (5 + 7 * k + 6) (nI j)) q) (by omega) (by omega)  _ _ _ (hw) (by rw [e9]; exact lv_sub hl [1, 2, 3, 4, 5, 0] rfl)
            · skip
              have c_65 : j = k := (nI_eq (a := j) (b := k) (by omega) (by omega)).mp c_65
              refine lv_goto (tgt := 131) hx hb dX9_friendBest_68 (by decide) ?_
              refine lv_iinc (v := nI (j + 1)) (lv' := [(6, .int (nI (j + 1))), (0, .ref (a 0)), (1, .int (nI k)), (2, .int (nI q)), (4, .int ((frA s (nI k) q j).2)), (5, .int ((frA s (nI k) q j).1))]) hx hb dX9_friendBest_131 hl (k := 5) rfl (nI_1 j) (by decide) rfl (fun ls hl => ?_)
              refine lv_goto (tgt := 51) hx hb dX9_friendBest_134 (by decide) ?_
              have e9 : frA s (nI k) q (j + 1) = frA s (nI k) q j := by
                show frS s (nI k) q j (frA s (nI k) q j) = _
                rw [frS, if_pos (by rw [c_65])]
              exact ih_J (j + 1) mm (by omega) (by omega)  _ _ _ (hw) (by rw [e9]; exact lv_sub hl [1, 2, 3, 4, 5, 0] rfl)
      refine lv_aload_n hx hb dX9_friendBest_0 rfl (lv_at hl 0 rfl) ?_
      refine lv_iload_n hx hb dX9_friendBest_1 rfl (lv_at hl 1 rfl) ?_
      refine r_det (r_V cx hw (kX9_isPerson l hl9 g a s m im wa L R rf nu hi lm rn pl sd (nI k)) (cwV 1 hts (lw_V q1257 q1259 qs72 q94 q1260) rfl rfl rfl (by decide +kernel) ⟨Nat.le_of_ble_eq_true rfl, Nat.le_of_ble_eq_true rfl⟩) (r_recv hK hw (k := 0) (ci := 8) rfl rfl) [0, 1, 2, 3, 4, 5, 6, 7, 8] rfl rfl rfl hl.1 rfl (Nat.le_of_ble_eq_true rfl) dX9_friendBest_2 ⟨Nat.le_of_ble_eq_true rfl, Nat.le_of_ble_eq_true rfl⟩) cx hw [0, 1, 2, 3, 4, 5, 6, 7, 8] rfl rfl rfl (ws' := WM g a s m im wa L R rf nu hi lm rn pl sd) (rfl) (fun H locs hw => ?_)
      refine W.eq (g2 := F0 m9 5 ls [.int (bI (psB s (nI k)))]) rfl ?_
      refine lv_if_eq (tgt := 18) hx hb dX9_friendBest_5 (by decide) (fun c_5 => absurd c_5 (by rw [hps_p]; decide)) (fun c_5 => ?_)
      refine lv_iload_n hx hb dX9_friendBest_8 rfl (lv_at hl 2 rfl) ?_
      refine lv_iconst (v := 0) hx hb dX9_friendBest_9 (by decide) ?_
      refine lv_bipush (v := 48) hx hb dX9_friendBest_10 (by decide) ?_
      refine r_det (r_S cx hw (kX9_wrongBy l hl9 g (nI q) 0 48) (va_cwS 3 hts (lw_S q1318 q1319 q94 q1320) rfl rfl rfl (by decide +kernel) ⟨Nat.le_of_ble_eq_true rfl, Nat.le_of_ble_eq_true rfl⟩) [] rfl rfl rfl hl.1 rfl (Nat.le_of_ble_eq_true rfl) dX9_friendBest_12 ⟨Nat.le_of_ble_eq_true rfl, Nat.le_of_ble_eq_true rfl⟩) cx hw [] rfl rfl rfl (ws' := WM g a s m im wa L R rf nu hi lm rn pl sd) (rfl) (fun H locs hw => ?_)
      refine W.eq (g2 := F0 m9 15 ls [.int (wrF (nI q) 0 48)]) rfl ?_
      refine lv_goto (tgt := 19) hx hb dX9_friendBest_15 (by decide) ?_
      refine lv_istore_n (lv' := [(3, .int (wrF (nI q) 0 48)), (0, .ref (a 0)), (1, .int (nI k)), (2, .int (nI q))]) hx hb dX9_friendBest_19 rfl hl (by decide) rfl (fun ls hl => ?_)
      refine lv_iload_n hx hb dX9_friendBest_20 rfl (lv_at hl 0 rfl) ?_
      refine lv_if_eq (tgt := 30) hx hb dX9_friendBest_21 (by decide) (fun c_21 => ?_) (fun c_21 => absurd hwr_n c_21)
      refine lv_aload_n hx hb dX9_friendBest_30 rfl (lv_at hl 1 rfl) ?_
      refine lv_iload_n hx hb dX9_friendBest_31 rfl (lv_at hl 3 rfl) ?_
      refine r_det (r_V cx hw (kX9_takes l hl9 g a s m im wa L R rf nu hi lm rn pl sd hI q (by omega)) (cwV 1 hts (lw_V q1349 q1351 qs76 q94 q1352) rfl rfl rfl (by decide +kernel) ⟨Nat.le_of_ble_eq_true rfl, Nat.le_of_ble_eq_true rfl⟩) (r_recv hK hw (k := 0) (ci := 8) rfl rfl) [0, 1, 2, 3, 4, 5, 6, 7, 8] rfl rfl rfl hl.1 rfl (Nat.le_of_ble_eq_true rfl) dX9_friendBest_32 ⟨Nat.le_of_ble_eq_true rfl, Nat.le_of_ble_eq_true rfl⟩) cx hw [0, 1, 2, 3, 4, 5, 6, 7, 8] rfl rfl rfl (ws' := WM g a s (hoursF s q) im wa L R rf nu hi lm rn pl sd) (rfl) (fun H locs hw => ?_)
      refine W.eq (g2 := F0 m9 35 ls []) rfl ?_
      refine lv_aload_n hx hb dX9_friendBest_35 rfl (lv_at hl 1 rfl) ?_
      refine r_get cx hw in_X9 0 (ci := 8) (T := TX9) (N := 13) rfl rfl 1 (by decide) q1170 (fun _ h9 => h9) rfl dX9_friendBest_36 ?_
      refine r_det (r_S cx hw (kX9_leastHas l hl9 g (a 2) (hoursF s q) (hI.hours q)) (va_cwS 1 hts (lw_S q1396 q1397 q94 q1398) rfl rfl rfl (by decide +kernel) ⟨Nat.le_of_ble_eq_true rfl, Nat.le_of_ble_eq_true rfl⟩) [2] rfl rfl rfl hl.1 rfl (Nat.le_of_ble_eq_true rfl) dX9_friendBest_39 ⟨Nat.le_of_ble_eq_true rfl, Nat.le_of_ble_eq_true rfl⟩) cx hw [2] rfl rfl rfl (ws' := WM g a s (hoursF s q) im wa L R rf nu hi lm rn pl sd) (rfl) (fun H locs hw => ?_)
      refine W.eq (g2 := F0 m9 42 ls [.int (lstF (hoursF s q))]) rfl ?_
      refine lv_istore (lv' := [(4, .int (lstF (hoursF s q))), (3, .int (wrF (nI q) 0 48)), (0, .ref (a 0)), (1, .int (nI k)), (2, .int (nI q))]) hx hb dX9_friendBest_42 hl (by decide) rfl (fun ls hl => ?_)
      refine lv_bipush (v := (-9)) hx hb dX9_friendBest_44 (by decide) ?_
      refine lv_istore (lv' := [(5, .int (-9)), (4, .int (lstF (hoursF s q))), (3, .int (wrF (nI q) 0 48)), (0, .ref (a 0)), (1, .int (nI k)), (2, .int (nI q))]) hx hb dX9_friendBest_46 hl (by decide) rfl (fun ls hl => ?_)
      refine lv_iconst (v := 0) hx hb dX9_friendBest_48 (by decide) ?_
      refine lv_istore (lv' := [(6, .int 0), (5, .int (-9)), (4, .int (lstF (hoursF s q))), (3, .int (wrF (nI q) 0 48)), (0, .ref (a 0)), (1, .int (nI k)), (2, .int (nI q))]) hx hb dX9_friendBest_49 hl (by decide) rfl (fun ls hl => ?_)
      exact J (nN s + 1) 0 (hoursF s q) (by omega) (by omega)  _ _ _ (hw) (lv_sub hl [4, 5, 6, 2, 1, 0] rfl)
    · skip
      have hW : wOf s (nI k) n 48 = wrF n 0 48 := by simp [wOf, hps_p, hwr_n]
      have hne : ¬ wOf s (nI k) n 48 = 0 := by rw [hW]; exact hwr_n
      refine MC.of (by decide) (Nat.le_of_ble_eq_true rfl) ?_
      intro p9 e9 s9 m9 args9 below9 meth9 c9 A9 ls cx htab hw hl
      have hx := cx.1
      have hb := cx.2.1
      have hts := cx.2.2.2.2.1
      have hK := cx.2.2.2.2.2.2.2.1
      have hl : lv_has ls 7 [(0, .ref (a 0)), (1, .int (nI k)), (2, .int n)] := hl
      refine lv_aload_n hx hb dX9_friendBest_0 rfl (lv_at hl 0 rfl) ?_
      refine lv_iload_n hx hb dX9_friendBest_1 rfl (lv_at hl 1 rfl) ?_
      refine r_det (r_V cx hw (kX9_isPerson l hl9 g a s m im wa L R rf nu hi lm rn pl sd (nI k)) (cwV 1 hts (lw_V q1257 q1259 qs72 q94 q1260) rfl rfl rfl (by decide +kernel) ⟨Nat.le_of_ble_eq_true rfl, Nat.le_of_ble_eq_true rfl⟩) (r_recv hK hw (k := 0) (ci := 8) rfl rfl) [0, 1, 2, 3, 4, 5, 6, 7, 8] rfl rfl rfl hl.1 rfl (Nat.le_of_ble_eq_true rfl) dX9_friendBest_2 ⟨Nat.le_of_ble_eq_true rfl, Nat.le_of_ble_eq_true rfl⟩) cx hw [0, 1, 2, 3, 4, 5, 6, 7, 8] rfl rfl rfl (ws' := WM g a s m im wa L R rf nu hi lm rn pl sd) (rfl) (fun H locs hw => ?_)
      refine W.eq (g2 := F0 m9 5 ls [.int (bI (psB s (nI k)))]) rfl ?_
      refine lv_if_eq (tgt := 18) hx hb dX9_friendBest_5 (by decide) (fun c_5 => absurd c_5 (by rw [hps_p]; decide)) (fun c_5 => ?_)
      refine lv_iload_n hx hb dX9_friendBest_8 rfl (lv_at hl 2 rfl) ?_
      refine lv_iconst (v := 0) hx hb dX9_friendBest_9 (by decide) ?_
      refine lv_bipush (v := 48) hx hb dX9_friendBest_10 (by decide) ?_
      refine r_det (r_S cx hw (kX9_wrongBy l hl9 g n 0 48) (va_cwS 3 hts (lw_S q1318 q1319 q94 q1320) rfl rfl rfl (by decide +kernel) ⟨Nat.le_of_ble_eq_true rfl, Nat.le_of_ble_eq_true rfl⟩) [] rfl rfl rfl hl.1 rfl (Nat.le_of_ble_eq_true rfl) dX9_friendBest_12 ⟨Nat.le_of_ble_eq_true rfl, Nat.le_of_ble_eq_true rfl⟩) cx hw [] rfl rfl rfl (ws' := WM g a s m im wa L R rf nu hi lm rn pl sd) (rfl) (fun H locs hw => ?_)
      refine W.eq (g2 := F0 m9 15 ls [.int (wrF n 0 48)]) rfl ?_
      refine lv_goto (tgt := 19) hx hb dX9_friendBest_15 (by decide) ?_
      refine lv_istore_n (lv' := [(3, .int (wrF n 0 48)), (0, .ref (a 0)), (1, .int (nI k)), (2, .int n)]) hx hb dX9_friendBest_19 rfl hl (by decide) rfl (fun ls hl => ?_)
      refine lv_iload_n hx hb dX9_friendBest_20 rfl (lv_at hl 0 rfl) ?_
      refine lv_if_eq (tgt := 30) hx hb dX9_friendBest_21 (by decide) (fun c_21 => absurd c_21 hwr_n) (fun c_21 => ?_)
      refine lv_aload_n hx hb dX9_friendBest_24 rfl (lv_at hl 1 rfl) ?_
      refine lv_iload_n hx hb dX9_friendBest_25 rfl (lv_at hl 0 rfl) ?_
      refine r_det (r_V cx hw (kX9_no l hl9 g a s m im wa L R rf nu hi lm rn pl sd (wrF n 0 48) (wrF_ok hwr_n)) (cwV 1 hts (lw_V q1213 q1215 qs65 q94 q1216) rfl rfl rfl (by decide +kernel) ⟨Nat.le_of_ble_eq_true rfl, Nat.le_of_ble_eq_true rfl⟩) (r_recv hK hw (k := 0) (ci := 8) rfl rfl) [0, 1, 2, 3, 4, 5, 6, 7, 8] rfl rfl rfl hl.1 rfl (Nat.le_of_ble_eq_true rfl) dX9_friendBest_26 ⟨Nat.le_of_ble_eq_true rfl, Nat.le_of_ble_eq_true rfl⟩) cx hw [0, 1, 2, 3, 4, 5, 6, 7, 8] rfl rfl rfl (ws' := WM g a s m im wa L R (rfU rf (wrF n 0 48)) nu hi lm rn pl sd) (rfl) (fun H locs hw => ?_)
      refine W.eq (g2 := F0 m9 29 ls [.int (wrF n 0 48)]) rfl ?_
      exact r_iret cx hw (⟨_, by rw [ans_n hne, hW], by rw [rfA_n hne, hW]⟩) (Nat.le_of_ble_eq_true rfl) (Nat.le_of_ble_eq_true rfl) dX9_friendBest_29
  · skip
    have hps_p : psB s p = false := by simpa using hps_p
    have hW : wOf s p n 48 = -1 := by simp [wOf, hps_p]
    have hne : ¬ wOf s p n 48 = 0 := by rw [hW]; decide
    refine MC.of (by decide) (Nat.le_of_ble_eq_true rfl) ?_
    intro p9 e9 s9 m9 args9 below9 meth9 c9 A9 ls cx htab hw hl
    have hx := cx.1
    have hb := cx.2.1
    have hts := cx.2.2.2.2.1
    have hK := cx.2.2.2.2.2.2.2.1
    have hl : lv_has ls 7 [(0, .ref (a 0)), (1, .int p), (2, .int n)] := hl
    refine lv_aload_n hx hb dX9_friendBest_0 rfl (lv_at hl 0 rfl) ?_
    refine lv_iload_n hx hb dX9_friendBest_1 rfl (lv_at hl 1 rfl) ?_
    refine r_det (r_V cx hw (kX9_isPerson l hl9 g a s m im wa L R rf nu hi lm rn pl sd p) (cwV 1 hts (lw_V q1257 q1259 qs72 q94 q1260) rfl rfl rfl (by decide +kernel) ⟨Nat.le_of_ble_eq_true rfl, Nat.le_of_ble_eq_true rfl⟩) (r_recv hK hw (k := 0) (ci := 8) rfl rfl) [0, 1, 2, 3, 4, 5, 6, 7, 8] rfl rfl rfl hl.1 rfl (Nat.le_of_ble_eq_true rfl) dX9_friendBest_2 ⟨Nat.le_of_ble_eq_true rfl, Nat.le_of_ble_eq_true rfl⟩) cx hw [0, 1, 2, 3, 4, 5, 6, 7, 8] rfl rfl rfl (ws' := WM g a s m im wa L R rf nu hi lm rn pl sd) (rfl) (fun H locs hw => ?_)
    refine W.eq (g2 := F0 m9 5 ls [.int (bI (psB s p))]) rfl ?_
    refine lv_if_eq (tgt := 18) hx hb dX9_friendBest_5 (by decide) (fun c_5 => ?_) (fun c_5 => absurd c_5 (by rw [hps_p]; decide))
    refine lv_iconst (v := (-1)) hx hb dX9_friendBest_18 (by decide) ?_
    refine lv_istore_n (lv' := [(3, .int (-1)), (0, .ref (a 0)), (1, .int p), (2, .int n)]) hx hb dX9_friendBest_19 rfl hl (by decide) rfl (fun ls hl => ?_)
    refine lv_iload_n hx hb dX9_friendBest_20 rfl (lv_at hl 0 rfl) ?_
    refine lv_if_eq (tgt := 30) hx hb dX9_friendBest_21 (by decide) (fun c_21 => absurd c_21 (by decide)) (fun c_21 => ?_)
    refine lv_aload_n hx hb dX9_friendBest_24 rfl (lv_at hl 1 rfl) ?_
    refine lv_iload_n hx hb dX9_friendBest_25 rfl (lv_at hl 0 rfl) ?_
    refine r_det (r_V cx hw (kX9_no l hl9 g a s m im wa L R rf nu hi lm rn pl sd (-1) (by unfold okC; decide)) (cwV 1 hts (lw_V q1213 q1215 qs65 q94 q1216) rfl rfl rfl (by decide +kernel) ⟨Nat.le_of_ble_eq_true rfl, Nat.le_of_ble_eq_true rfl⟩) (r_recv hK hw (k := 0) (ci := 8) rfl rfl) [0, 1, 2, 3, 4, 5, 6, 7, 8] rfl rfl rfl hl.1 rfl (Nat.le_of_ble_eq_true rfl) dX9_friendBest_26 ⟨Nat.le_of_ble_eq_true rfl, Nat.le_of_ble_eq_true rfl⟩) cx hw [0, 1, 2, 3, 4, 5, 6, 7, 8] rfl rfl rfl (ws' := WM g a s m im wa L R (rfU rf (-1)) nu hi lm rn pl sd) (rfl) (fun H locs hw => ?_)
    refine W.eq (g2 := F0 m9 29 ls [.int (-1)]) rfl ?_
    exact r_iret cx hw (⟨_, by rw [ans_n hne, hW], by rw [rfA_n hne, hW]⟩) (Nat.le_of_ble_eq_true rfl) (Nat.le_of_ble_eq_true rfl) dX9_friendBest_29

set_option maxHeartbeats 4000000 in
set_option maxRecDepth 100000 in
theorem kX9_fewest (l : Launch) (hl9 : l.stackTraces = false) (g : GG) (a : Nat → Nat) (s m im wa L R rf nu : Nat → Int32) (hi lm rn pl sd : Int32) (hI : InvM s) (n : Int32) : MC l yX9_fewest cX9_fewest 5 (some .int) 5 112 0 0 g [.ref (a 0), .int n] (WM g a s m im wa L R rf nu hi lm rn pl sd) (rtE (α := Nat → Int32) (some (.int (ans (wrF n 0 24) (fwA s (tN n) (2 ^ nN s))))) (fun x9 => WM g a s x9 im wa L R (rfA (wrF n 0 24) rf) nu hi lm rn pl sd)) (noX) := by
  by_cases hwr_n : wrF n 0 24 = 0
  · skip
    obtain ⟨q, hq, rfl⟩ := nI_rng (M := 24) (by decide) (Int32.le_trans (by decide) (wrF_0 hwr_n).1) (wrF_0 hwr_n).2
    have eq : tN (nI q) = q := tN_nI (by omega)
    have hW : wrF (nI q) 0 24 = 0 := hwr_n
    refine MC.of (by decide) (Nat.le_of_ble_eq_true rfl) ?_
    intro p9 e9 s9 m9 args9 below9 meth9 c9 A9 ls cx htab hw hl
    have hx := cx.1
    have hb := cx.2.1
    have hts := cx.2.2.2.2.1
    have hK := cx.2.2.2.2.2.2.2.1
    have hl : lv_has ls 5 [(0, .ref (a 0)), (1, .int (nI q))] := hl
    obtain ⟨B, hB, hB9⟩ : ∃ B, B = 2 ^ nN s ∧ B ≤ 64 := ⟨_, rfl, pow_64 hI.1⟩
    have J : ∀ (n9 j : Nat) (mm : Nat → Int32), j ≤ B → B < n9 + j → ∀ (H : Heap) (locs : List Loc) (ls : Array Slot), WS g A9 s9.heap (WM g a s mm im wa L R rf nu hi lm rn pl sd) H locs → lv_has ls 5 [(0, .ref (a 0)), (1, .int (nI q)), (3, .int (fwA s q j)), (4, .int (nI j))] → W p9 l e9 (rmC 5 112 0 0) s9 m9 args9 below9 meth9 c9 H locs 0 0 (vx_MQ below9 (PostA g A9 (rtE (α := Nat → Int32) (some (.int (ans (wrF (nI q) 0 24) (fwA s (tN (nI q)) (2 ^ nN s))))) (fun x9 => WM g a s x9 im wa L R (rfA (wrF (nI q) 0 24) rf) nu hi lm rn pl sd))) (PxA g A9 (pxR (noX))) args9 s9 0 0 A9) (F0 m9 24 ls []) := by
      intro n9
      induction n9 with
      | zero => intro j mm hj hk9; exact absurd hk9 (by omega)
      | succ n9 ih_J =>
        intro j mm hj hk9  H locs ls hw hl
        refine lv_iload hx hb dX9_fewest_24 (lv_at hl 3 rfl) ?_
        refine lv_iconst (v := 1) hx hb dX9_fewest_26 (by decide) ?_
        refine lv_aload_n hx hb dX9_fewest_27 rfl (lv_at hl 0 rfl) ?_
        refine r_get cx hw in_X9 0 (ci := 8) (T := TX9) (N := 13) rfl rfl 0 (by decide) q1169 (fun _ h9 => h9) rfl dX9_fewest_28 ?_
        refine lv_iconst (v := 0) hx hb dX9_fewest_31 (by decide) ?_
        refine r_iald cx hw 1 rfl 0 rfl (by omega) (Nat.le_of_ble_eq_true rfl) dX9_fewest_32 ?_
        refine lv_ishl hx hb dX9_fewest_33 ?_
        refine r_topi (x' := nI B) (by rw [hI.2.1, shl_n _ hI.1, ← hB]) ?_
        refine lv_icmp_ge (tgt := 93) hx hb dX9_fewest_34 (by decide) (fun c_34 => ?_) (fun c_34 => ?_)
        · skip
          have c_34 : B ≤ j := (nI_leI (a := B) (b := j) (by omega) (by omega)).mp c_34
          refine lv_iload_n hx hb dX9_fewest_93 rfl (lv_at hl 2 rfl) ?_
          exact r_iret cx hw (⟨_, by rw [hW, ans_0, eq, ← hB, show j = B by omega], by rw [hW, rfA_0]⟩) (Nat.le_of_ble_eq_true rfl) (Nat.le_of_ble_eq_true rfl) dX9_fewest_94
        · skip
          have c_34 : j < B := Nat.not_le.mp (fun h9 => c_34 ((nI_leI (a := B) (b := j) (by omega) (by omega)).mpr h9))
          refine lv_iload_n hx hb dX9_fewest_37 rfl (lv_at hl 2 rfl) ?_
          refine lv_if_lt (tgt := 56) hx hb dX9_fewest_38 (by decide) (fun c_38 => ?_) (fun c_38 => ?_)
          · skip
            have c_38N := Int32.not_le.mpr c_38
            refine lv_aload_n hx hb dX9_fewest_56 rfl (lv_at hl 0 rfl) ?_
            refine r_get cx hw in_X9 0 (ci := 8) (T := TX9) (N := 13) rfl rfl 0 (by decide) q1169 (fun _ h9 => h9) rfl dX9_fewest_57 ?_
            refine lv_aload_n hx hb dX9_fewest_60 rfl (lv_at hl 0 rfl) ?_
            refine r_get cx hw in_X9 0 (ci := 8) (T := TX9) (N := 13) rfl rfl 1 (by decide) q1170 (fun _ h9 => h9) rfl dX9_fewest_61 ?_
            refine r_det (r_S cx hw (kX9_copies l hl9 g (a 1) (a 2) s mm) (va_cwS 2 hts (lw_S q1243 q1244 q94 q1245) rfl rfl rfl (by decide +kernel) ⟨Nat.le_of_ble_eq_true rfl, Nat.le_of_ble_eq_true rfl⟩) [1, 2] rfl rfl rfl hl.1 rfl (Nat.le_of_ble_eq_true rfl) dX9_fewest_64 ⟨Nat.le_of_ble_eq_true rfl, Nat.le_of_ble_eq_true rfl⟩) cx hw [1, 2] rfl rfl rfl (ws' := WM g a s s im wa L R rf nu hi lm rn pl sd) (rfl) (fun H locs hw => ?_)
            refine W.eq (g2 := F0 m9 67 ls []) rfl ?_
            refine lv_aload_n hx hb dX9_fewest_67 rfl (lv_at hl 0 rfl) ?_
            refine r_get cx hw in_X9 0 (ci := 8) (T := TX9) (N := 13) rfl rfl 1 (by decide) q1170 (fun _ h9 => h9) rfl dX9_fewest_68 ?_
            refine lv_iconst (v := 4) hx hb dX9_fewest_71 (by decide) ?_
            refine lv_iload hx hb dX9_fewest_72 (lv_at hl 3 rfl) ?_
            refine r_iast cx hw 2 rfl 4 rfl (by omega) (Nat.le_of_ble_eq_true rfl) dX9_fewest_74 (fun H locs hw => ?_)
            have hw : WS g A9 s9.heap (WM g a s (upd s 4 (nI j)) im wa L R rf nu hi lm rn pl sd) H locs := hw
            refine lv_aload_n hx hb dX9_fewest_75 rfl (lv_at hl 0 rfl) ?_
            refine lv_iconst (v := (-1)) hx hb dX9_fewest_76 (by decide) ?_
            refine lv_iload_n hx hb dX9_fewest_77 rfl (lv_at hl 1 rfl) ?_
            refine r_detE (α := Nat → Int32) (r_V cx hw (kX9_isNoneDry l hl9 g a s (upd s 4 (nI j)) im wa L R rf nu hi lm rn pl sd (InvM_upd hI (by decide) (fun j => by omega)) (-1) q (by omega)) (cwV 2 hts (lw_V q1381 q1383 qs79 q94 q1384) rfl rfl rfl (by decide +kernel) ⟨Nat.le_of_ble_eq_true rfl, Nat.le_of_ble_eq_true rfl⟩) (r_recv hK hw (k := 0) (ci := 8) rfl rfl) [0, 1, 2, 3, 4, 5, 6, 7, 8] rfl rfl rfl hl.1 rfl (Nat.le_of_ble_eq_true rfl) dX9_fewest_78 ⟨Nat.le_of_ble_eq_true rfl, Nat.le_of_ble_eq_true rfl⟩) cx hw [0, 1, 2, 3, 4, 5, 6, 7, 8] rfl rfl (fun _ => rfl) (ws' := fun x9 => WM g a s x9 im wa L R rf nu hi lm rn pl sd) (fun _ => rfl) (fun mm_3 H locs hw => ?_)
            refine W.eq (g2 := F0 m9 81 ls [.int (bI (ndB (upd s 4 (nI j)) (-1) (q + 1)))]) rfl ?_
            have hw : WS g A9 s9.heap (WM g a s mm_3 im wa L R rf nu hi lm rn pl sd) H locs := hw
            refine lv_if_eq (tgt := 87) hx hb dX9_fewest_81 (by decide) (fun c_81 => ?_) (fun c_81 => ?_)
            · skip
              have c_81 := bI_e0 c_81
              refine lv_iinc (v := nI (j + 1)) (lv' := [(4, .int (nI (j + 1))), (0, .ref (a 0)), (1, .int (nI q)), (3, .int (fwA s q j))]) hx hb dX9_fewest_87 hl (k := 3) rfl (nI_1 j) (by decide) rfl (fun ls hl => ?_)
              refine lv_goto (tgt := 24) hx hb dX9_fewest_90 (by decide) ?_
              have e9 : fwA s q (j + 1) = fwA s q j := by
                show fwS s q j (fwA s q j) = _
                rw [fwS, if_neg (fun h9 => Int32.not_le.mpr c_38 h9.1), if_neg (by rw [c_81]; decide)]
              exact ih_J (j + 1) mm_3 (by omega) (by omega)  _ _ _ (hw) (by rw [e9]; exact lv_sub hl [1, 2, 3, 0] rfl)
            · skip
              have c_81 := bI_n0 c_81
              refine lv_iload hx hb dX9_fewest_84 (lv_at hl 3 rfl) ?_
              refine lv_istore_n (lv' := [(3, .int (nI j)), (0, .ref (a 0)), (1, .int (nI q)), (4, .int (nI j))]) hx hb dX9_fewest_86 rfl hl (by decide) rfl (fun ls hl => ?_)
              refine lv_iinc (v := nI (j + 1)) (lv' := [(4, .int (nI (j + 1))), (3, .int (nI j)), (0, .ref (a 0)), (1, .int (nI q))]) hx hb dX9_fewest_87 hl (k := 3) rfl (nI_1 j) (by decide) rfl (fun ls hl => ?_)
              refine lv_goto (tgt := 24) hx hb dX9_fewest_90 (by decide) ?_
              have e9 : fwA s q (j + 1) = nI j := by
                show fwS s q j (fwA s q j) = _
                rw [fwS, if_neg (fun h9 => Int32.not_le.mpr c_38 h9.1), if_pos c_81]
              exact ih_J (j + 1) mm_3 (by omega) (by omega)  _ _ _ (hw) (by rw [e9]; exact lv_sub hl [2, 3, 1, 0] rfl)
          · skip
            have c_38N := Int32.not_lt.mp c_38
            refine lv_iload hx hb dX9_fewest_41 (lv_at hl 3 rfl) ?_
            refine r_det (r_S cx hw (kX9_bits l hl9 g (nI j)) (va_cwS 1 hts (lw_S q1299 q1300 q94 q1301) rfl rfl rfl (by decide +kernel) ⟨Nat.le_of_ble_eq_true rfl, Nat.le_of_ble_eq_true rfl⟩) [] rfl rfl rfl hl.1 rfl (Nat.le_of_ble_eq_true rfl) dX9_fewest_43 ⟨Nat.le_of_ble_eq_true rfl, Nat.le_of_ble_eq_true rfl⟩) cx hw [] rfl rfl rfl (ws' := WM g a s mm im wa L R rf nu hi lm rn pl sd) (rfl) (fun H locs hw => ?_)
            refine W.eq (g2 := F0 m9 46 ls [.int (bitsF (nI j))]) rfl ?_
            refine lv_iload_n hx hb dX9_fewest_46 rfl (lv_at hl 2 rfl) ?_
            refine r_det (r_S cx hw (kX9_bits l hl9 g (fwA s q j)) (va_cwS 1 hts (lw_S q1299 q1300 q94 q1301) rfl rfl rfl (by decide +kernel) ⟨Nat.le_of_ble_eq_true rfl, Nat.le_of_ble_eq_true rfl⟩) [] rfl rfl rfl hl.1 rfl (Nat.le_of_ble_eq_true rfl) dX9_fewest_47 ⟨Nat.le_of_ble_eq_true rfl, Nat.le_of_ble_eq_true rfl⟩) cx hw [] rfl rfl rfl (ws' := WM g a s mm im wa L R rf nu hi lm rn pl sd) (rfl) (fun H locs hw => ?_)
            refine W.eq (g2 := F0 m9 50 ls [.int (bitsF (fwA s q j)), .int (bitsF (nI j))]) rfl ?_
            refine lv_icmp_lt (tgt := 56) hx hb dX9_fewest_50 (by decide) (fun c_50 => ?_) (fun c_50 => ?_)
            · skip
              have c_50N := Int32.not_le.mpr c_50
              refine lv_aload_n hx hb dX9_fewest_56 rfl (lv_at hl 0 rfl) ?_
              refine r_get cx hw in_X9 0 (ci := 8) (T := TX9) (N := 13) rfl rfl 0 (by decide) q1169 (fun _ h9 => h9) rfl dX9_fewest_57 ?_
              refine lv_aload_n hx hb dX9_fewest_60 rfl (lv_at hl 0 rfl) ?_
              refine r_get cx hw in_X9 0 (ci := 8) (T := TX9) (N := 13) rfl rfl 1 (by decide) q1170 (fun _ h9 => h9) rfl dX9_fewest_61 ?_
              refine r_det (r_S cx hw (kX9_copies l hl9 g (a 1) (a 2) s mm) (va_cwS 2 hts (lw_S q1243 q1244 q94 q1245) rfl rfl rfl (by decide +kernel) ⟨Nat.le_of_ble_eq_true rfl, Nat.le_of_ble_eq_true rfl⟩) [1, 2] rfl rfl rfl hl.1 rfl (Nat.le_of_ble_eq_true rfl) dX9_fewest_64 ⟨Nat.le_of_ble_eq_true rfl, Nat.le_of_ble_eq_true rfl⟩) cx hw [1, 2] rfl rfl rfl (ws' := WM g a s s im wa L R rf nu hi lm rn pl sd) (rfl) (fun H locs hw => ?_)
              refine W.eq (g2 := F0 m9 67 ls []) rfl ?_
              refine lv_aload_n hx hb dX9_fewest_67 rfl (lv_at hl 0 rfl) ?_
              refine r_get cx hw in_X9 0 (ci := 8) (T := TX9) (N := 13) rfl rfl 1 (by decide) q1170 (fun _ h9 => h9) rfl dX9_fewest_68 ?_
              refine lv_iconst (v := 4) hx hb dX9_fewest_71 (by decide) ?_
              refine lv_iload hx hb dX9_fewest_72 (lv_at hl 3 rfl) ?_
              refine r_iast cx hw 2 rfl 4 rfl (by omega) (Nat.le_of_ble_eq_true rfl) dX9_fewest_74 (fun H locs hw => ?_)
              have hw : WS g A9 s9.heap (WM g a s (upd s 4 (nI j)) im wa L R rf nu hi lm rn pl sd) H locs := hw
              refine lv_aload_n hx hb dX9_fewest_75 rfl (lv_at hl 0 rfl) ?_
              refine lv_iconst (v := (-1)) hx hb dX9_fewest_76 (by decide) ?_
              refine lv_iload_n hx hb dX9_fewest_77 rfl (lv_at hl 1 rfl) ?_
              refine r_detE (α := Nat → Int32) (r_V cx hw (kX9_isNoneDry l hl9 g a s (upd s 4 (nI j)) im wa L R rf nu hi lm rn pl sd (InvM_upd hI (by decide) (fun j => by omega)) (-1) q (by omega)) (cwV 2 hts (lw_V q1381 q1383 qs79 q94 q1384) rfl rfl rfl (by decide +kernel) ⟨Nat.le_of_ble_eq_true rfl, Nat.le_of_ble_eq_true rfl⟩) (r_recv hK hw (k := 0) (ci := 8) rfl rfl) [0, 1, 2, 3, 4, 5, 6, 7, 8] rfl rfl rfl hl.1 rfl (Nat.le_of_ble_eq_true rfl) dX9_fewest_78 ⟨Nat.le_of_ble_eq_true rfl, Nat.le_of_ble_eq_true rfl⟩) cx hw [0, 1, 2, 3, 4, 5, 6, 7, 8] rfl rfl (fun _ => rfl) (ws' := fun x9 => WM g a s x9 im wa L R rf nu hi lm rn pl sd) (fun _ => rfl) (fun mm_6 H locs hw => ?_)
              refine W.eq (g2 := F0 m9 81 ls [.int (bI (ndB (upd s 4 (nI j)) (-1) (q + 1)))]) rfl ?_
              have hw : WS g A9 s9.heap (WM g a s mm_6 im wa L R rf nu hi lm rn pl sd) H locs := hw
              refine lv_if_eq (tgt := 87) hx hb dX9_fewest_81 (by decide) (fun c_81 => ?_) (fun c_81 => ?_)
              · skip
                have c_81 := bI_e0 c_81
                refine lv_iinc (v := nI (j + 1)) (lv' := [(4, .int (nI (j + 1))), (0, .ref (a 0)), (1, .int (nI q)), (3, .int (fwA s q j))]) hx hb dX9_fewest_87 hl (k := 3) rfl (nI_1 j) (by decide) rfl (fun ls hl => ?_)
                refine lv_goto (tgt := 24) hx hb dX9_fewest_90 (by decide) ?_
                have e9 : fwA s q (j + 1) = fwA s q j := by
                  show fwS s q j (fwA s q j) = _
                  rw [fwS, if_neg (fun h9 => Int32.not_le.mpr c_50 h9.2), if_neg (by rw [c_81]; decide)]
                exact ih_J (j + 1) mm_6 (by omega) (by omega)  _ _ _ (hw) (by rw [e9]; exact lv_sub hl [1, 2, 3, 0] rfl)
              · skip
                have c_81 := bI_n0 c_81
                refine lv_iload hx hb dX9_fewest_84 (lv_at hl 3 rfl) ?_
                refine lv_istore_n (lv' := [(3, .int (nI j)), (0, .ref (a 0)), (1, .int (nI q)), (4, .int (nI j))]) hx hb dX9_fewest_86 rfl hl (by decide) rfl (fun ls hl => ?_)
                refine lv_iinc (v := nI (j + 1)) (lv' := [(4, .int (nI (j + 1))), (3, .int (nI j)), (0, .ref (a 0)), (1, .int (nI q))]) hx hb dX9_fewest_87 hl (k := 3) rfl (nI_1 j) (by decide) rfl (fun ls hl => ?_)
                refine lv_goto (tgt := 24) hx hb dX9_fewest_90 (by decide) ?_
                have e9 : fwA s q (j + 1) = nI j := by
                  show fwS s q j (fwA s q j) = _
                  rw [fwS, if_neg (fun h9 => Int32.not_le.mpr c_50 h9.2), if_pos c_81]
                exact ih_J (j + 1) mm_6 (by omega) (by omega)  _ _ _ (hw) (by rw [e9]; exact lv_sub hl [2, 3, 1, 0] rfl)
            · skip
              have c_50N := Int32.not_lt.mp c_50
              refine lv_goto (tgt := 87) hx hb dX9_fewest_53 (by decide) ?_
              refine lv_iinc (v := nI (j + 1)) (lv' := [(4, .int (nI (j + 1))), (0, .ref (a 0)), (1, .int (nI q)), (3, .int (fwA s q j))]) hx hb dX9_fewest_87 hl (k := 3) rfl (nI_1 j) (by decide) rfl (fun ls hl => ?_)
              refine lv_goto (tgt := 24) hx hb dX9_fewest_90 (by decide) ?_
              have e9 : fwA s q (j + 1) = fwA s q j := by
                show fwS s q j (fwA s q j) = _
                rw [fwS, if_pos ⟨Int32.not_lt.mp c_38, Int32.not_lt.mp c_50⟩]
              exact ih_J (j + 1) mm (by omega) (by omega)  _ _ _ (hw) (by rw [e9]; exact lv_sub hl [1, 2, 3, 0] rfl)
    refine lv_iload_n hx hb dX9_fewest_0 rfl (lv_at hl 1 rfl) ?_
    refine lv_iconst (v := 0) hx hb dX9_fewest_1 (by decide) ?_
    refine lv_bipush (v := 24) hx hb dX9_fewest_2 (by decide) ?_
    refine r_det (r_S cx hw (kX9_wrongBy l hl9 g (nI q) 0 24) (va_cwS 3 hts (lw_S q1318 q1319 q94 q1320) rfl rfl rfl (by decide +kernel) ⟨Nat.le_of_ble_eq_true rfl, Nat.le_of_ble_eq_true rfl⟩) [] rfl rfl rfl hl.1 rfl (Nat.le_of_ble_eq_true rfl) dX9_fewest_4 ⟨Nat.le_of_ble_eq_true rfl, Nat.le_of_ble_eq_true rfl⟩) cx hw [] rfl rfl rfl (ws' := WM g a s m im wa L R rf nu hi lm rn pl sd) (rfl) (fun H locs hw => ?_)
    refine W.eq (g2 := F0 m9 7 ls [.int (wrF (nI q) 0 24)]) rfl ?_
    refine lv_istore_n (lv' := [(2, .int (wrF (nI q) 0 24)), (0, .ref (a 0)), (1, .int (nI q))]) hx hb dX9_fewest_7 rfl hl (by decide) rfl (fun ls hl => ?_)
    refine lv_iload_n hx hb dX9_fewest_8 rfl (lv_at hl 0 rfl) ?_
    refine lv_if_eq (tgt := 18) hx hb dX9_fewest_9 (by decide) (fun c_9 => ?_) (fun c_9 => absurd hwr_n c_9)
    refine lv_bipush (v := (-9)) hx hb dX9_fewest_18 (by decide) ?_
    refine lv_istore_n (lv' := [(3, .int (-9)), (2, .int (wrF (nI q) 0 24)), (0, .ref (a 0)), (1, .int (nI q))]) hx hb dX9_fewest_20 rfl hl (by decide) rfl (fun ls hl => ?_)
    refine lv_iconst (v := 0) hx hb dX9_fewest_21 (by decide) ?_
    refine lv_istore (lv' := [(4, .int 0), (3, .int (-9)), (2, .int (wrF (nI q) 0 24)), (0, .ref (a 0)), (1, .int (nI q))]) hx hb dX9_fewest_22 hl (by decide) rfl (fun ls hl => ?_)
    exact J (B + 1) 0 m (by omega) (by omega)  _ _ _ (hw) (lv_sub hl [3, 4, 1, 0] rfl)
  · skip
    have hW : wrF n 0 24 = wrF n 0 24 := rfl
    have hne : ¬ wrF n 0 24 = 0 := by rw [hW]; exact hwr_n
    refine MC.of (by decide) (Nat.le_of_ble_eq_true rfl) ?_
    intro p9 e9 s9 m9 args9 below9 meth9 c9 A9 ls cx htab hw hl
    have hx := cx.1
    have hb := cx.2.1
    have hts := cx.2.2.2.2.1
    have hK := cx.2.2.2.2.2.2.2.1
    have hl : lv_has ls 5 [(0, .ref (a 0)), (1, .int n)] := hl
    refine lv_iload_n hx hb dX9_fewest_0 rfl (lv_at hl 1 rfl) ?_
    refine lv_iconst (v := 0) hx hb dX9_fewest_1 (by decide) ?_
    refine lv_bipush (v := 24) hx hb dX9_fewest_2 (by decide) ?_
    refine r_det (r_S cx hw (kX9_wrongBy l hl9 g n 0 24) (va_cwS 3 hts (lw_S q1318 q1319 q94 q1320) rfl rfl rfl (by decide +kernel) ⟨Nat.le_of_ble_eq_true rfl, Nat.le_of_ble_eq_true rfl⟩) [] rfl rfl rfl hl.1 rfl (Nat.le_of_ble_eq_true rfl) dX9_fewest_4 ⟨Nat.le_of_ble_eq_true rfl, Nat.le_of_ble_eq_true rfl⟩) cx hw [] rfl rfl rfl (ws' := WM g a s m im wa L R rf nu hi lm rn pl sd) (rfl) (fun H locs hw => ?_)
    refine W.eq (g2 := F0 m9 7 ls [.int (wrF n 0 24)]) rfl ?_
    refine lv_istore_n (lv' := [(2, .int (wrF n 0 24)), (0, .ref (a 0)), (1, .int n)]) hx hb dX9_fewest_7 rfl hl (by decide) rfl (fun ls hl => ?_)
    refine lv_iload_n hx hb dX9_fewest_8 rfl (lv_at hl 0 rfl) ?_
    refine lv_if_eq (tgt := 18) hx hb dX9_fewest_9 (by decide) (fun c_9 => absurd c_9 hwr_n) (fun c_9 => ?_)
    refine lv_aload_n hx hb dX9_fewest_12 rfl (lv_at hl 1 rfl) ?_
    refine lv_iload_n hx hb dX9_fewest_13 rfl (lv_at hl 0 rfl) ?_
    refine r_det (r_V cx hw (kX9_no l hl9 g a s m im wa L R rf nu hi lm rn pl sd (wrF n 0 24) (wrF_ok hwr_n)) (cwV 1 hts (lw_V q1213 q1215 qs65 q94 q1216) rfl rfl rfl (by decide +kernel) ⟨Nat.le_of_ble_eq_true rfl, Nat.le_of_ble_eq_true rfl⟩) (r_recv hK hw (k := 0) (ci := 8) rfl rfl) [0, 1, 2, 3, 4, 5, 6, 7, 8] rfl rfl rfl hl.1 rfl (Nat.le_of_ble_eq_true rfl) dX9_fewest_14 ⟨Nat.le_of_ble_eq_true rfl, Nat.le_of_ble_eq_true rfl⟩) cx hw [0, 1, 2, 3, 4, 5, 6, 7, 8] rfl rfl rfl (ws' := WM g a s m im wa L R (rfU rf (wrF n 0 24)) nu hi lm rn pl sd) (rfl) (fun H locs hw => ?_)
    refine W.eq (g2 := F0 m9 17 ls [.int (wrF n 0 24)]) rfl ?_
    exact r_iret cx hw (⟨_, by rw [ans_n hne, hW], by rw [rfA_n hne, hW]⟩) (Nat.le_of_ble_eq_true rfl) (Nat.le_of_ble_eq_true rfl) dX9_fewest_17

set_option maxHeartbeats 4000000 in
set_option maxRecDepth 100000 in
theorem kX9_next (l : Launch) (hl9 : l.stackTraces = false) (g : GG) (a : Nat → Nat) (s m im wa L R rf nu : Nat → Int32) (hi lm rn pl sd : Int32) (hI : InvM s)  : MC l yX9_next cX9_next 2 (some .int) 6 132 0 0 g [.ref (a 0)] (WM g a s m im wa L R rf nu hi lm rn pl sd) (rtE (α := Nat → Int32) (some (.int (ans 0 (vNxt s)))) (fun x9 => WM g a s x9 im wa L R (rfA 0 rf) nu hi lm rn pl sd)) (noX) := by
  refine MC.of (by decide) (Nat.le_of_ble_eq_true rfl) ?_
  intro p9 e9 s9 m9 args9 below9 meth9 c9 A9 ls cx htab hw hl
  have hx := cx.1
  have hb := cx.2.1
  have hts := cx.2.2.2.2.1
  have hK := cx.2.2.2.2.2.2.2.1
  have hl : lv_has ls 2 [(0, .ref (a 0))] := hl
  refine lv_aload_n hx hb dX9_next_0 rfl (lv_at hl 0 rfl) ?_
  refine r_get cx hw in_X9 0 (ci := 8) (T := TX9) (N := 13) rfl rfl 0 (by decide) q1169 (fun _ h9 => h9) rfl dX9_next_1 ?_
  refine lv_iconst (v := 1) hx hb dX9_next_4 (by decide) ?_
  refine r_iald cx hw 1 rfl 1 rfl (by omega) (Nat.le_of_ble_eq_true rfl) dX9_next_5 ?_
  refine lv_bipush (v := 12) hx hb dX9_next_6 (by decide) ?_
  refine lv_irem hx hb dX9_next_8 (by decide) ?_
  refine r_topi (x' := irem (s 1) 12) (rfl) ?_
  refine lv_if_ne (tgt := 16) hx hb dX9_next_9 (by decide) (fun c_9 => ?_) (fun c_9 => ?_)
  · skip
    refine lv_aload_n hx hb dX9_next_16 rfl (lv_at hl 0 rfl) ?_
    refine r_get cx hw in_X9 0 (ci := 8) (T := TX9) (N := 13) rfl rfl 0 (by decide) q1169 (fun _ h9 => h9) rfl dX9_next_17 ?_
    refine lv_iconst (v := 5) hx hb dX9_next_20 (by decide) ?_
    refine r_det (r_S cx hw (kX9_flagged l hl9 g (a 1) s hI 5 (by omega)) (va_cwS 2 hts (lw_S q1296 q1297 q94 q1298) rfl rfl rfl (by decide +kernel) ⟨Nat.le_of_ble_eq_true rfl, Nat.le_of_ble_eq_true rfl⟩) [1] rfl rfl rfl hl.1 rfl (Nat.le_of_ble_eq_true rfl) dX9_next_21 ⟨Nat.le_of_ble_eq_true rfl, Nat.le_of_ble_eq_true rfl⟩) cx hw [1] rfl rfl rfl (ws' := WM g a s m im wa L R rf nu hi lm rn pl sd) (rfl) (fun H locs hw => ?_)
    refine W.eq (g2 := F0 m9 24 ls [.int (flgF s 5)]) rfl ?_
    refine lv_istore_n (lv' := [(1, .int (flgF s 5)), (0, .ref (a 0))]) hx hb dX9_next_24 rfl hl (by decide) rfl (fun ls hl => ?_)
    refine lv_aload_n hx hb dX9_next_25 rfl (lv_at hl 1 rfl) ?_
    refine lv_iconst (v := 1) hx hb dX9_next_26 (by decide) ?_
    refine r_det (r_V cx hw (kX9_takes l hl9 g a s m im wa L R rf nu hi lm rn pl sd hI 1 (by omega)) (cwV 1 hts (lw_V q1349 q1351 qs76 q94 q1352) rfl rfl rfl (by decide +kernel) ⟨Nat.le_of_ble_eq_true rfl, Nat.le_of_ble_eq_true rfl⟩) (r_recv hK hw (k := 0) (ci := 8) rfl rfl) [0, 1, 2, 3, 4, 5, 6, 7, 8] rfl rfl rfl hl.1 rfl (Nat.le_of_ble_eq_true rfl) dX9_next_27 ⟨Nat.le_of_ble_eq_true rfl, Nat.le_of_ble_eq_true rfl⟩) cx hw [0, 1, 2, 3, 4, 5, 6, 7, 8] rfl rfl rfl (ws' := WM g a s (hoursF s 1) im wa L R rf nu hi lm rn pl sd) (rfl) (fun H locs hw => ?_)
    refine W.eq (g2 := F0 m9 30 ls []) rfl ?_
    refine lv_aload_n hx hb dX9_next_30 rfl (lv_at hl 1 rfl) ?_
    refine r_get cx hw in_X9 0 (ci := 8) (T := TX9) (N := 13) rfl rfl 1 (by decide) q1170 (fun _ h9 => h9) rfl dX9_next_31 ?_
    refine lv_iconst (v := 5) hx hb dX9_next_34 (by decide) ?_
    refine r_det (r_S cx hw (kX9_flagged l hl9 g (a 2) (hoursF s 1) (hI.hours 1) 5 (by omega)) (va_cwS 2 hts (lw_S q1296 q1297 q94 q1298) rfl rfl rfl (by decide +kernel) ⟨Nat.le_of_ble_eq_true rfl, Nat.le_of_ble_eq_true rfl⟩) [2] rfl rfl rfl hl.1 rfl (Nat.le_of_ble_eq_true rfl) dX9_next_35 ⟨Nat.le_of_ble_eq_true rfl, Nat.le_of_ble_eq_true rfl⟩) cx hw [2] rfl rfl rfl (ws' := WM g a s (hoursF s 1) im wa L R rf nu hi lm rn pl sd) (rfl) (fun H locs hw => ?_)
    refine W.eq (g2 := F0 m9 38 ls [.int (flgF (hoursF s 1) 5)]) rfl ?_
    refine lv_iload_n hx hb dX9_next_38 rfl (lv_at hl 0 rfl) ?_
    refine lv_iconst (v := (-1)) hx hb dX9_next_39 (by decide) ?_
    refine lv_ixor hx hb dX9_next_40 ?_
    refine lv_iand hx hb dX9_next_41 ?_
    exact r_iret cx hw (⟨_, by rw [ans_0, vNxt, if_neg c_9], by rw [rfA_0]⟩) (Nat.le_of_ble_eq_true rfl) (Nat.le_of_ble_eq_true rfl) dX9_next_42
  · skip
    refine lv_iconst (v := 0) hx hb dX9_next_12 (by decide) ?_
    refine lv_goto (tgt := 24) hx hb dX9_next_13 (by decide) ?_
    refine lv_istore_n (lv' := [(1, .int 0), (0, .ref (a 0))]) hx hb dX9_next_24 rfl hl (by decide) rfl (fun ls hl => ?_)
    refine lv_aload_n hx hb dX9_next_25 rfl (lv_at hl 1 rfl) ?_
    refine lv_iconst (v := 1) hx hb dX9_next_26 (by decide) ?_
    refine r_det (r_V cx hw (kX9_takes l hl9 g a s m im wa L R rf nu hi lm rn pl sd hI 1 (by omega)) (cwV 1 hts (lw_V q1349 q1351 qs76 q94 q1352) rfl rfl rfl (by decide +kernel) ⟨Nat.le_of_ble_eq_true rfl, Nat.le_of_ble_eq_true rfl⟩) (r_recv hK hw (k := 0) (ci := 8) rfl rfl) [0, 1, 2, 3, 4, 5, 6, 7, 8] rfl rfl rfl hl.1 rfl (Nat.le_of_ble_eq_true rfl) dX9_next_27 ⟨Nat.le_of_ble_eq_true rfl, Nat.le_of_ble_eq_true rfl⟩) cx hw [0, 1, 2, 3, 4, 5, 6, 7, 8] rfl rfl rfl (ws' := WM g a s (hoursF s 1) im wa L R rf nu hi lm rn pl sd) (rfl) (fun H locs hw => ?_)
    refine W.eq (g2 := F0 m9 30 ls []) rfl ?_
    refine lv_aload_n hx hb dX9_next_30 rfl (lv_at hl 1 rfl) ?_
    refine r_get cx hw in_X9 0 (ci := 8) (T := TX9) (N := 13) rfl rfl 1 (by decide) q1170 (fun _ h9 => h9) rfl dX9_next_31 ?_
    refine lv_iconst (v := 5) hx hb dX9_next_34 (by decide) ?_
    refine r_det (r_S cx hw (kX9_flagged l hl9 g (a 2) (hoursF s 1) (hI.hours 1) 5 (by omega)) (va_cwS 2 hts (lw_S q1296 q1297 q94 q1298) rfl rfl rfl (by decide +kernel) ⟨Nat.le_of_ble_eq_true rfl, Nat.le_of_ble_eq_true rfl⟩) [2] rfl rfl rfl hl.1 rfl (Nat.le_of_ble_eq_true rfl) dX9_next_35 ⟨Nat.le_of_ble_eq_true rfl, Nat.le_of_ble_eq_true rfl⟩) cx hw [2] rfl rfl rfl (ws' := WM g a s (hoursF s 1) im wa L R rf nu hi lm rn pl sd) (rfl) (fun H locs hw => ?_)
    refine W.eq (g2 := F0 m9 38 ls [.int (flgF (hoursF s 1) 5)]) rfl ?_
    refine lv_iload_n hx hb dX9_next_38 rfl (lv_at hl 0 rfl) ?_
    refine lv_iconst (v := (-1)) hx hb dX9_next_39 (by decide) ?_
    refine lv_ixor hx hb dX9_next_40 ?_
    refine lv_iand hx hb dX9_next_41 ?_
    exact r_iret cx hw (⟨_, by rw [ans_0, vNxt, if_pos c_9], by rw [rfA_0]⟩) (Nat.le_of_ble_eq_true rfl) (Nat.le_of_ble_eq_true rfl) dX9_next_42

set_option maxHeartbeats 4000000 in
set_option maxRecDepth 100000 in
theorem kX9_extreme (l : Launch) (hl9 : l.stackTraces = false) (g : GG) (a : Nat → Nat) (s m im wa L R rf nu : Nat → Int32) (hi lm rn pl sd : Int32) (hI : InvM s) (sg : Int32) (b : Bool) : MC l yX9_extreme cX9_extreme 7 (some .int) 3 64 0 0 g [.ref (a 0), .int sg, .int (bI b)] (WM g a s m im wa L R rf nu hi lm rn pl sd) (rt (some (.int (exF s sg b))) (WM g a s m im wa L R rf nu hi lm rn pl sd)) (noX) := by
  refine MC.of (by decide) (Nat.le_of_ble_eq_true rfl) ?_
  intro p9 e9 s9 m9 args9 below9 meth9 c9 A9 ls cx htab hw hl
  have hx := cx.1
  have hb := cx.2.1
  have hts := cx.2.2.2.2.1
  have hK := cx.2.2.2.2.2.2.2.1
  have hl : lv_has ls 7 [(0, .ref (a 0)), (1, .int sg), (2, .int (bI b))] := hl
  have hN := hI.1
  have J : ∀ (n9 j : Nat) , j ≤ nN s → nN s < n9 + j → ∀ (H : Heap) (locs : List Loc) (ls : Array Slot), WS g A9 s9.heap (WM g a s m im wa L R rf nu hi lm rn pl sd) H locs → lv_has ls 7 [(0, .ref (a 0)), (1, .int sg), (2, .int (bI b)), (3, .int ((exA s sg b j).1)), (4, .int ((exA s sg b j).2)), (5, .int (nI j))] → W p9 l e9 (rmC 3 64 0 0) s9 m9 args9 below9 meth9 c9 H locs 0 0 (vx_MQ below9 (PostA g A9 (rt (some (.int (exF s sg b))) (WM g a s m im wa L R rf nu hi lm rn pl sd))) (PxA g A9 (pxR (noX))) args9 s9 0 0 A9) (F0 m9 9 ls []) := by
    intro n9
    induction n9 with
    | zero => intro j  hj hk9; exact absurd hk9 (by omega)
    | succ n9 ih_J =>
      intro j  hj hk9  H locs ls hw hl
      refine lv_iload hx hb dX9_extreme_9 (lv_at hl 5 rfl) ?_
      refine lv_aload_n hx hb dX9_extreme_11 rfl (lv_at hl 0 rfl) ?_
      refine r_get cx hw in_X9 0 (ci := 8) (T := TX9) (N := 13) rfl rfl 0 (by decide) q1169 (fun _ h9 => h9) rfl dX9_extreme_12 ?_
      refine lv_iconst (v := 0) hx hb dX9_extreme_15 (by decide) ?_
      refine r_iald cx hw 1 rfl 0 rfl (by omega) (Nat.le_of_ble_eq_true rfl) dX9_extreme_16 ?_
      refine r_topi (x' := nI (nN s)) (hI.2.1) ?_
      refine lv_icmp_ge (tgt := 78) hx hb dX9_extreme_17 (by decide) (fun c_17 => ?_) (fun c_17 => ?_)
      · skip
        have c_17 : (nN s) ≤ j := (nI_leI (a := (nN s)) (b := j) (by omega) (by omega)).mp c_17
        refine lv_iload_n hx hb dX9_extreme_78 rfl (lv_at hl 3 rfl) ?_
        exact r_iret cx hw (⟨by rw [exF, show j = nN s by omega], rfl⟩) (Nat.le_of_ble_eq_true rfl) (Nat.le_of_ble_eq_true rfl) dX9_extreme_79
      · skip
        have c_17 : j < (nN s) := Nat.not_le.mp (fun h9 => c_17 ((nI_leI (a := (nN s)) (b := j) (by omega) (by omega)).mpr h9))
        refine lv_iload_n hx hb dX9_extreme_20 rfl (lv_at hl 2 rfl) ?_
        refine lv_if_eq (tgt := 36) hx hb dX9_extreme_21 (by decide) (fun c_21 => ?_) (fun c_21 => ?_)
        · skip
          have c_21 := bI_e0 c_21
          refine lv_iload_n hx hb dX9_extreme_36 rfl (lv_at hl 1 rfl) ?_
          refine lv_aload_n hx hb dX9_extreme_37 rfl (lv_at hl 0 rfl) ?_
          refine r_get cx hw in_X9 0 (ci := 8) (T := TX9) (N := 13) rfl rfl 0 (by decide) q1169 (fun _ h9 => h9) rfl dX9_extreme_38 ?_
          refine lv_iload hx hb dX9_extreme_41 (lv_at hl 5 rfl) ?_
          refine lv_iconst (v := 3) hx hb dX9_extreme_43 (by decide) ?_
          refine r_det (r_S cx hw (kX9_of l hl9 g j 3) (va_cwS 2 hts (lw_S q1254 q1255 q94 q1256) rfl rfl rfl (by decide +kernel) ⟨Nat.le_of_ble_eq_true rfl, Nat.le_of_ble_eq_true rfl⟩) [] rfl rfl rfl hl.1 rfl (Nat.le_of_ble_eq_true rfl) dX9_extreme_44 ⟨Nat.le_of_ble_eq_true rfl, Nat.le_of_ble_eq_true rfl⟩) cx hw [] rfl rfl rfl (ws' := WM g a s m im wa L R rf nu hi lm rn pl sd) (rfl) (fun H locs hw => ?_)
          refine W.eq (g2 := F0 m9 47 ls [.int (nI (5 + 7 * j + 3)), .ref (a 1), .int sg]) rfl ?_
          refine r_iald cx hw 1 rfl (5 + 7 * j + 3) rfl (by omega) (Nat.le_of_ble_eq_true rfl) dX9_extreme_47 ?_
          refine lv_imul hx hb dX9_extreme_48 ?_
          refine r_topi (x' := exV s sg b j) (by rw [exV, if_neg (by rw [c_21]; decide)]) ?_
          refine lv_istore (lv' := [(6, .int (exV s sg b j)), (0, .ref (a 0)), (1, .int sg), (2, .int (bI b)), (3, .int ((exA s sg b j).1)), (4, .int ((exA s sg b j).2)), (5, .int (nI j))]) hx hb dX9_extreme_49 hl (by decide) rfl (fun ls hl => ?_)
          refine lv_iload_n hx hb dX9_extreme_51 rfl (lv_at hl 4 rfl) ?_
          refine lv_if_lt (tgt := 65) hx hb dX9_extreme_52 (by decide) (fun c_52 => ?_) (fun c_52 => ?_)
          · skip
            have c_52N := Int32.not_le.mpr c_52
            refine lv_iload hx hb dX9_extreme_65 (lv_at hl 6 rfl) ?_
            refine lv_istore_n (lv' := [(3, .int (nI j)), (6, .int (exV s sg b j)), (0, .ref (a 0)), (1, .int sg), (2, .int (bI b)), (4, .int ((exA s sg b j).2)), (5, .int (nI j))]) hx hb dX9_extreme_67 rfl hl (by decide) rfl (fun ls hl => ?_)
            refine lv_iload hx hb dX9_extreme_68 (lv_at hl 1 rfl) ?_
            refine lv_istore (lv' := [(4, .int (exV s sg b j)), (3, .int (nI j)), (6, .int (exV s sg b j)), (0, .ref (a 0)), (1, .int sg), (2, .int (bI b)), (5, .int (nI j))]) hx hb dX9_extreme_70 hl (by decide) rfl (fun ls hl => ?_)
            refine lv_iinc (v := nI (j + 1)) (lv' := [(5, .int (nI (j + 1))), (4, .int (exV s sg b j)), (3, .int (nI j)), (6, .int (exV s sg b j)), (0, .ref (a 0)), (1, .int sg), (2, .int (bI b))]) hx hb dX9_extreme_72 hl (k := 6) rfl (nI_1 j) (by decide) rfl (fun ls hl => ?_)
            refine lv_goto (tgt := 9) hx hb dX9_extreme_75 (by decide) ?_
            have e9 : exA s sg b (j + 1) = (nI j, exV s sg b j) := by
              show exS (exV s sg b) j (exA s sg b j) = _
              rw [exS, if_neg (fun h9 => Int32.not_le.mpr c_52 h9.1)]
            exact ih_J (j + 1)  (by omega) (by omega)  _ _ _ (hw) (by rw [e9]; exact lv_sub hl [4, 5, 6, 2, 1, 0] rfl)
          · skip
            have c_52N := Int32.not_lt.mp c_52
            refine lv_iload hx hb dX9_extreme_55 (lv_at hl 0 rfl) ?_
            refine lv_iload hx hb dX9_extreme_57 (lv_at hl 5 rfl) ?_
            refine lv_icmp_gt (tgt := 65) hx hb dX9_extreme_59 (by decide) (fun c_59 => ?_) (fun c_59 => ?_)
            · skip
              have c_59N := Int32.not_le.mpr c_59
              refine lv_iload hx hb dX9_extreme_65 (lv_at hl 6 rfl) ?_
              refine lv_istore_n (lv' := [(3, .int (nI j)), (6, .int (exV s sg b j)), (0, .ref (a 0)), (1, .int sg), (2, .int (bI b)), (4, .int ((exA s sg b j).2)), (5, .int (nI j))]) hx hb dX9_extreme_67 rfl hl (by decide) rfl (fun ls hl => ?_)
              refine lv_iload hx hb dX9_extreme_68 (lv_at hl 1 rfl) ?_
              refine lv_istore (lv' := [(4, .int (exV s sg b j)), (3, .int (nI j)), (6, .int (exV s sg b j)), (0, .ref (a 0)), (1, .int sg), (2, .int (bI b)), (5, .int (nI j))]) hx hb dX9_extreme_70 hl (by decide) rfl (fun ls hl => ?_)
              refine lv_iinc (v := nI (j + 1)) (lv' := [(5, .int (nI (j + 1))), (4, .int (exV s sg b j)), (3, .int (nI j)), (6, .int (exV s sg b j)), (0, .ref (a 0)), (1, .int sg), (2, .int (bI b))]) hx hb dX9_extreme_72 hl (k := 6) rfl (nI_1 j) (by decide) rfl (fun ls hl => ?_)
              refine lv_goto (tgt := 9) hx hb dX9_extreme_75 (by decide) ?_
              have e9 : exA s sg b (j + 1) = (nI j, exV s sg b j) := by
                show exS (exV s sg b) j (exA s sg b j) = _
                rw [exS, if_neg (fun h9 => Int32.not_le.mpr c_59 h9.2)]
              exact ih_J (j + 1)  (by omega) (by omega)  _ _ _ (hw) (by rw [e9]; exact lv_sub hl [4, 5, 6, 2, 1, 0] rfl)
            · skip
              have c_59N := Int32.not_lt.mp c_59
              refine lv_goto (tgt := 72) hx hb dX9_extreme_62 (by decide) ?_
              refine lv_iinc (v := nI (j + 1)) (lv' := [(5, .int (nI (j + 1))), (6, .int (exV s sg b j)), (0, .ref (a 0)), (1, .int sg), (2, .int (bI b)), (3, .int ((exA s sg b j).1)), (4, .int ((exA s sg b j).2))]) hx hb dX9_extreme_72 hl (k := 6) rfl (nI_1 j) (by decide) rfl (fun ls hl => ?_)
              refine lv_goto (tgt := 9) hx hb dX9_extreme_75 (by decide) ?_
              have e9 : exA s sg b (j + 1) = exA s sg b j := by
                show exS (exV s sg b) j (exA s sg b j) = _
                rw [exS, if_pos ⟨Int32.not_lt.mp c_52, Int32.not_lt.mp c_59⟩]
              exact ih_J (j + 1)  (by omega) (by omega)  _ _ _ (hw) (by rw [e9]; exact lv_sub hl [2, 3, 4, 5, 6, 0] rfl)
        · skip
          have c_21 := bI_n0 c_21
          refine lv_aload_n hx hb dX9_extreme_24 rfl (lv_at hl 0 rfl) ?_
          refine r_get cx hw in_X9 0 (ci := 8) (T := TX9) (N := 13) rfl rfl 0 (by decide) q1169 (fun _ h9 => h9) rfl dX9_extreme_25 ?_
          refine lv_iload hx hb dX9_extreme_28 (lv_at hl 5 rfl) ?_
          refine r_det (r_S cx hw (kX9_speaksIn l hl9 g (a 1) s j (by omega)) (va_cwS 2 hts (lw_S q1270 q1271 q94 q1272) rfl rfl rfl (by decide +kernel) ⟨Nat.le_of_ble_eq_true rfl, Nat.le_of_ble_eq_true rfl⟩) [1] rfl rfl rfl hl.1 rfl (Nat.le_of_ble_eq_true rfl) dX9_extreme_30 ⟨Nat.le_of_ble_eq_true rfl, Nat.le_of_ble_eq_true rfl⟩) cx hw [1] rfl rfl rfl (ws' := WM g a s m im wa L R rf nu hi lm rn pl sd) (rfl) (fun H locs hw => ?_)
          refine W.eq (g2 := F0 m9 33 ls [.int (spI s j)]) rfl ?_
          refine lv_goto (tgt := 49) hx hb dX9_extreme_33 (by decide) ?_
          refine r_topi (x' := exV s sg b j) (by rw [exV, if_pos c_21]) ?_
          refine lv_istore (lv' := [(6, .int (exV s sg b j)), (0, .ref (a 0)), (1, .int sg), (2, .int (bI b)), (3, .int ((exA s sg b j).1)), (4, .int ((exA s sg b j).2)), (5, .int (nI j))]) hx hb dX9_extreme_49 hl (by decide) rfl (fun ls hl => ?_)
          refine lv_iload_n hx hb dX9_extreme_51 rfl (lv_at hl 4 rfl) ?_
          refine lv_if_lt (tgt := 65) hx hb dX9_extreme_52 (by decide) (fun c_52 => ?_) (fun c_52 => ?_)
          · skip
            have c_52N := Int32.not_le.mpr c_52
            refine lv_iload hx hb dX9_extreme_65 (lv_at hl 6 rfl) ?_
            refine lv_istore_n (lv' := [(3, .int (nI j)), (6, .int (exV s sg b j)), (0, .ref (a 0)), (1, .int sg), (2, .int (bI b)), (4, .int ((exA s sg b j).2)), (5, .int (nI j))]) hx hb dX9_extreme_67 rfl hl (by decide) rfl (fun ls hl => ?_)
            refine lv_iload hx hb dX9_extreme_68 (lv_at hl 1 rfl) ?_
            refine lv_istore (lv' := [(4, .int (exV s sg b j)), (3, .int (nI j)), (6, .int (exV s sg b j)), (0, .ref (a 0)), (1, .int sg), (2, .int (bI b)), (5, .int (nI j))]) hx hb dX9_extreme_70 hl (by decide) rfl (fun ls hl => ?_)
            refine lv_iinc (v := nI (j + 1)) (lv' := [(5, .int (nI (j + 1))), (4, .int (exV s sg b j)), (3, .int (nI j)), (6, .int (exV s sg b j)), (0, .ref (a 0)), (1, .int sg), (2, .int (bI b))]) hx hb dX9_extreme_72 hl (k := 6) rfl (nI_1 j) (by decide) rfl (fun ls hl => ?_)
            refine lv_goto (tgt := 9) hx hb dX9_extreme_75 (by decide) ?_
            have e9 : exA s sg b (j + 1) = (nI j, exV s sg b j) := by
              show exS (exV s sg b) j (exA s sg b j) = _
              rw [exS, if_neg (fun h9 => Int32.not_le.mpr c_52 h9.1)]
            exact ih_J (j + 1)  (by omega) (by omega)  _ _ _ (hw) (by rw [e9]; exact lv_sub hl [4, 5, 6, 2, 1, 0] rfl)
          · skip
            have c_52N := Int32.not_lt.mp c_52
            refine lv_iload hx hb dX9_extreme_55 (lv_at hl 0 rfl) ?_
            refine lv_iload hx hb dX9_extreme_57 (lv_at hl 5 rfl) ?_
            refine lv_icmp_gt (tgt := 65) hx hb dX9_extreme_59 (by decide) (fun c_59 => ?_) (fun c_59 => ?_)
            · skip
              have c_59N := Int32.not_le.mpr c_59
              refine lv_iload hx hb dX9_extreme_65 (lv_at hl 6 rfl) ?_
              refine lv_istore_n (lv' := [(3, .int (nI j)), (6, .int (exV s sg b j)), (0, .ref (a 0)), (1, .int sg), (2, .int (bI b)), (4, .int ((exA s sg b j).2)), (5, .int (nI j))]) hx hb dX9_extreme_67 rfl hl (by decide) rfl (fun ls hl => ?_)
              refine lv_iload hx hb dX9_extreme_68 (lv_at hl 1 rfl) ?_
              refine lv_istore (lv' := [(4, .int (exV s sg b j)), (3, .int (nI j)), (6, .int (exV s sg b j)), (0, .ref (a 0)), (1, .int sg), (2, .int (bI b)), (5, .int (nI j))]) hx hb dX9_extreme_70 hl (by decide) rfl (fun ls hl => ?_)
              refine lv_iinc (v := nI (j + 1)) (lv' := [(5, .int (nI (j + 1))), (4, .int (exV s sg b j)), (3, .int (nI j)), (6, .int (exV s sg b j)), (0, .ref (a 0)), (1, .int sg), (2, .int (bI b))]) hx hb dX9_extreme_72 hl (k := 6) rfl (nI_1 j) (by decide) rfl (fun ls hl => ?_)
              refine lv_goto (tgt := 9) hx hb dX9_extreme_75 (by decide) ?_
              have e9 : exA s sg b (j + 1) = (nI j, exV s sg b j) := by
                show exS (exV s sg b) j (exA s sg b j) = _
                rw [exS, if_neg (fun h9 => Int32.not_le.mpr c_59 h9.2)]
              exact ih_J (j + 1)  (by omega) (by omega)  _ _ _ (hw) (by rw [e9]; exact lv_sub hl [4, 5, 6, 2, 1, 0] rfl)
            · skip
              have c_59N := Int32.not_lt.mp c_59
              refine lv_goto (tgt := 72) hx hb dX9_extreme_62 (by decide) ?_
              refine lv_iinc (v := nI (j + 1)) (lv' := [(5, .int (nI (j + 1))), (6, .int (exV s sg b j)), (0, .ref (a 0)), (1, .int sg), (2, .int (bI b)), (3, .int ((exA s sg b j).1)), (4, .int ((exA s sg b j).2))]) hx hb dX9_extreme_72 hl (k := 6) rfl (nI_1 j) (by decide) rfl (fun ls hl => ?_)
              refine lv_goto (tgt := 9) hx hb dX9_extreme_75 (by decide) ?_
              have e9 : exA s sg b (j + 1) = exA s sg b j := by
                show exS (exV s sg b) j (exA s sg b j) = _
                rw [exS, if_pos ⟨Int32.not_lt.mp c_52, Int32.not_lt.mp c_59⟩]
              exact ih_J (j + 1)  (by omega) (by omega)  _ _ _ (hw) (by rw [e9]; exact lv_sub hl [2, 3, 4, 5, 6, 0] rfl)
  refine lv_bipush (v := (-9)) hx hb dX9_extreme_0 (by decide) ?_
  refine lv_istore_n (lv' := [(3, .int (-9)), (0, .ref (a 0)), (1, .int sg), (2, .int (bI b))]) hx hb dX9_extreme_2 rfl hl (by decide) rfl (fun ls hl => ?_)
  refine lv_iconst (v := 0) hx hb dX9_extreme_3 (by decide) ?_
  refine lv_istore (lv' := [(4, .int 0), (3, .int (-9)), (0, .ref (a 0)), (1, .int sg), (2, .int (bI b))]) hx hb dX9_extreme_4 hl (by decide) rfl (fun ls hl => ?_)
  refine lv_iconst (v := 0) hx hb dX9_extreme_6 (by decide) ?_
  refine lv_istore (lv' := [(5, .int 0), (4, .int 0), (3, .int (-9)), (0, .ref (a 0)), (1, .int sg), (2, .int (bI b))]) hx hb dX9_extreme_7 hl (by decide) rfl (fun ls hl => ?_)
  exact J (nN s + 1) 0  (by omega) (by omega)  _ _ _ (hw) (lv_sub hl [3, 4, 5, 2, 1, 0] rfl)

set_option maxHeartbeats 4000000 in
set_option maxRecDepth 100000 in
theorem kX9_richest (l : Launch) (hl9 : l.stackTraces = false) (g : GG) (a : Nat → Nat) (s m im wa L R rf nu : Nat → Int32) (hi lm rn pl sd : Int32) (hI : InvM s) (w9 : Int32) : MC l yX9_richest cX9_richest 2 (some .int) 4 90 0 0 g [.ref (a 0), .int w9] (WM g a s m im wa L R rf nu hi lm rn pl sd) (rtE (α := Nat → Int32) (some (.int (ans (wRch w9) (vRch s w9)))) (fun x9 => WM g a s x9 im wa L R (rfA (wRch w9) rf) nu hi lm rn pl sd)) (noX) := by
  by_cases h0 : w9 = 0
  · skip
    subst h0
    have hW : wRch 0 = 0 := by simp [wRch]
    refine MC.of (by decide) (Nat.le_of_ble_eq_true rfl) ?_
    intro p9 e9 s9 m9 args9 below9 meth9 c9 A9 ls cx htab hw hl
    have hx := cx.1
    have hb := cx.2.1
    have hts := cx.2.2.2.2.1
    have hK := cx.2.2.2.2.2.2.2.1
    have hl : lv_has ls 2 [(0, .ref (a 0)), (1, .int 0)] := hl
    refine lv_iload_n hx hb dX9_richest_0 rfl (lv_at hl 1 rfl) ?_
    refine lv_if_ne (tgt := 13) hx hb dX9_richest_1 (by decide) (fun c_1 => absurd c_1 (by decide)) (fun c_1 => ?_)
    refine lv_aload_n hx hb dX9_richest_4 rfl (lv_at hl 0 rfl) ?_
    refine lv_iconst (v := 1) hx hb dX9_richest_5 (by decide) ?_
    refine lv_iconst (v := 0) hx hb dX9_richest_6 (by decide) ?_
    refine r_det (r_V cx hw (kX9_extreme l hl9 g a s m im wa L R rf nu hi lm rn pl sd hI 1 false) (cwV 2 hts (lw_V q1423 q1425 qs80 q94 q1426) rfl rfl rfl (by decide +kernel) ⟨Nat.le_of_ble_eq_true rfl, Nat.le_of_ble_eq_true rfl⟩) (r_recv hK hw (k := 0) (ci := 8) rfl rfl) [0, 1, 2, 3, 4, 5, 6, 7, 8] rfl rfl rfl hl.1 rfl (Nat.le_of_ble_eq_true rfl) dX9_richest_7 ⟨Nat.le_of_ble_eq_true rfl, Nat.le_of_ble_eq_true rfl⟩) cx hw [0, 1, 2, 3, 4, 5, 6, 7, 8] rfl rfl rfl (ws' := WM g a s m im wa L R rf nu hi lm rn pl sd) (rfl) (fun H locs hw => ?_)
    refine W.eq (g2 := F0 m9 10 ls [.int (exF s 1 false)]) rfl ?_
    refine lv_goto (tgt := 47) hx hb dX9_richest_10 (by decide) ?_
    exact r_iret cx hw (⟨_, by rw [hW, ans_0]; rfl, by rw [hW, rfA_0]⟩) (Nat.le_of_ble_eq_true rfl) (Nat.le_of_ble_eq_true rfl) dX9_richest_47
  · skip
    by_cases h1 : w9 = 1
    · skip
      subst h1
      have hW : wRch 1 = 0 := by simp [wRch]
      refine MC.of (by decide) (Nat.le_of_ble_eq_true rfl) ?_
      intro p9 e9 s9 m9 args9 below9 meth9 c9 A9 ls cx htab hw hl
      have hx := cx.1
      have hb := cx.2.1
      have hts := cx.2.2.2.2.1
      have hK := cx.2.2.2.2.2.2.2.1
      have hl : lv_has ls 2 [(0, .ref (a 0)), (1, .int 1)] := hl
      refine lv_iload_n hx hb dX9_richest_0 rfl (lv_at hl 1 rfl) ?_
      refine lv_if_ne (tgt := 13) hx hb dX9_richest_1 (by decide) (fun c_1 => ?_) (fun c_1 => absurd c_1 (by decide))
      refine lv_iload_n hx hb dX9_richest_13 rfl (lv_at hl 1 rfl) ?_
      refine lv_iconst (v := 1) hx hb dX9_richest_14 (by decide) ?_
      refine lv_icmp_ne (tgt := 27) hx hb dX9_richest_15 (by decide) (fun c_15 => absurd c_15 (by decide)) (fun c_15 => ?_)
      refine lv_aload_n hx hb dX9_richest_18 rfl (lv_at hl 0 rfl) ?_
      refine lv_iconst (v := (-1)) hx hb dX9_richest_19 (by decide) ?_
      refine lv_iconst (v := 0) hx hb dX9_richest_20 (by decide) ?_
      refine r_det (r_V cx hw (kX9_extreme l hl9 g a s m im wa L R rf nu hi lm rn pl sd hI (-1) false) (cwV 2 hts (lw_V q1423 q1425 qs80 q94 q1426) rfl rfl rfl (by decide +kernel) ⟨Nat.le_of_ble_eq_true rfl, Nat.le_of_ble_eq_true rfl⟩) (r_recv hK hw (k := 0) (ci := 8) rfl rfl) [0, 1, 2, 3, 4, 5, 6, 7, 8] rfl rfl rfl hl.1 rfl (Nat.le_of_ble_eq_true rfl) dX9_richest_21 ⟨Nat.le_of_ble_eq_true rfl, Nat.le_of_ble_eq_true rfl⟩) cx hw [0, 1, 2, 3, 4, 5, 6, 7, 8] rfl rfl rfl (ws' := WM g a s m im wa L R rf nu hi lm rn pl sd) (rfl) (fun H locs hw => ?_)
      refine W.eq (g2 := F0 m9 24 ls [.int (exF s (-1) false)]) rfl ?_
      refine lv_goto (tgt := 47) hx hb dX9_richest_24 (by decide) ?_
      exact r_iret cx hw (⟨_, by rw [hW, ans_0]; rfl, by rw [hW, rfA_0]⟩) (Nat.le_of_ble_eq_true rfl) (Nat.le_of_ble_eq_true rfl) dX9_richest_47
    · skip
      by_cases h2 : w9 = 2
      · skip
        subst h2
        have hW : wRch 2 = 0 := by simp [wRch]
        refine MC.of (by decide) (Nat.le_of_ble_eq_true rfl) ?_
        intro p9 e9 s9 m9 args9 below9 meth9 c9 A9 ls cx htab hw hl
        have hx := cx.1
        have hb := cx.2.1
        have hts := cx.2.2.2.2.1
        have hK := cx.2.2.2.2.2.2.2.1
        have hl : lv_has ls 2 [(0, .ref (a 0)), (1, .int 2)] := hl
        refine lv_iload_n hx hb dX9_richest_0 rfl (lv_at hl 1 rfl) ?_
        refine lv_if_ne (tgt := 13) hx hb dX9_richest_1 (by decide) (fun c_1 => ?_) (fun c_1 => absurd c_1 (by decide))
        refine lv_iload_n hx hb dX9_richest_13 rfl (lv_at hl 1 rfl) ?_
        refine lv_iconst (v := 1) hx hb dX9_richest_14 (by decide) ?_
        refine lv_icmp_ne (tgt := 27) hx hb dX9_richest_15 (by decide) (fun c_15 => ?_) (fun c_15 => absurd c_15 (by decide))
        refine lv_iload_n hx hb dX9_richest_27 rfl (lv_at hl 1 rfl) ?_
        refine lv_iconst (v := 2) hx hb dX9_richest_28 (by decide) ?_
        refine lv_icmp_ne (tgt := 41) hx hb dX9_richest_29 (by decide) (fun c_29 => absurd c_29 (by decide)) (fun c_29 => ?_)
        refine lv_aload_n hx hb dX9_richest_32 rfl (lv_at hl 0 rfl) ?_
        refine lv_iconst (v := 1) hx hb dX9_richest_33 (by decide) ?_
        refine lv_iconst (v := 1) hx hb dX9_richest_34 (by decide) ?_
        refine r_det (r_V cx hw (kX9_extreme l hl9 g a s m im wa L R rf nu hi lm rn pl sd hI 1 true) (cwV 2 hts (lw_V q1423 q1425 qs80 q94 q1426) rfl rfl rfl (by decide +kernel) ⟨Nat.le_of_ble_eq_true rfl, Nat.le_of_ble_eq_true rfl⟩) (r_recv hK hw (k := 0) (ci := 8) rfl rfl) [0, 1, 2, 3, 4, 5, 6, 7, 8] rfl rfl rfl hl.1 rfl (Nat.le_of_ble_eq_true rfl) dX9_richest_35 ⟨Nat.le_of_ble_eq_true rfl, Nat.le_of_ble_eq_true rfl⟩) cx hw [0, 1, 2, 3, 4, 5, 6, 7, 8] rfl rfl rfl (ws' := WM g a s m im wa L R rf nu hi lm rn pl sd) (rfl) (fun H locs hw => ?_)
        refine W.eq (g2 := F0 m9 38 ls [.int (exF s 1 true)]) rfl ?_
        refine lv_goto (tgt := 47) hx hb dX9_richest_38 (by decide) ?_
        exact r_iret cx hw (⟨_, by rw [hW, ans_0]; rfl, by rw [hW, rfA_0]⟩) (Nat.le_of_ble_eq_true rfl) (Nat.le_of_ble_eq_true rfl) dX9_richest_47
      · skip
        have hW : wRch w9 = -2 := by simp [wRch, h0, h1, h2]
        have hne : ¬ wRch w9 = 0 := by rw [hW]; decide
        refine MC.of (by decide) (Nat.le_of_ble_eq_true rfl) ?_
        intro p9 e9 s9 m9 args9 below9 meth9 c9 A9 ls cx htab hw hl
        have hx := cx.1
        have hb := cx.2.1
        have hts := cx.2.2.2.2.1
        have hK := cx.2.2.2.2.2.2.2.1
        have hl : lv_has ls 2 [(0, .ref (a 0)), (1, .int w9)] := hl
        refine lv_iload_n hx hb dX9_richest_0 rfl (lv_at hl 1 rfl) ?_
        refine lv_if_ne (tgt := 13) hx hb dX9_richest_1 (by decide) (fun c_9 => ?_) (fun c_9 => absurd c_9 h0)
        refine lv_iload_n hx hb dX9_richest_13 rfl (lv_at hl 1 rfl) ?_
        refine lv_iconst (v := 1) hx hb dX9_richest_14 (by decide) ?_
        refine lv_icmp_ne (tgt := 27) hx hb dX9_richest_15 (by decide) (fun c_9 => ?_) (fun c_9 => absurd c_9 h1)
        refine lv_iload_n hx hb dX9_richest_27 rfl (lv_at hl 1 rfl) ?_
        refine lv_iconst (v := 2) hx hb dX9_richest_28 (by decide) ?_
        refine lv_icmp_ne (tgt := 41) hx hb dX9_richest_29 (by decide) (fun c_9 => ?_) (fun c_9 => absurd c_9 h2)
        refine lv_aload_n hx hb dX9_richest_41 rfl (lv_at hl 0 rfl) ?_
        refine lv_bipush (v := (-2)) hx hb dX9_richest_42 (by decide) ?_
        refine r_det (r_V cx hw (kX9_no l hl9 g a s m im wa L R rf nu hi lm rn pl sd (-2) (by unfold okC; decide)) (cwV 1 hts (lw_V q1213 q1215 qs65 q94 q1216) rfl rfl rfl (by decide +kernel) ⟨Nat.le_of_ble_eq_true rfl, Nat.le_of_ble_eq_true rfl⟩) (r_recv hK hw (k := 0) (ci := 8) rfl rfl) [0, 1, 2, 3, 4, 5, 6, 7, 8] rfl rfl rfl hl.1 rfl (Nat.le_of_ble_eq_true rfl) dX9_richest_44 ⟨Nat.le_of_ble_eq_true rfl, Nat.le_of_ble_eq_true rfl⟩) cx hw [0, 1, 2, 3, 4, 5, 6, 7, 8] rfl rfl rfl (ws' := WM g a s m im wa L R (rfU rf (-2)) nu hi lm rn pl sd) (rfl) (fun H locs hw => ?_)
        refine W.eq (g2 := F0 m9 47 ls [.int (-2)]) rfl ?_
        exact r_iret cx hw (⟨_, by rw [ans_n hne, hW], by rw [rfA_n hne, hW]⟩) (Nat.le_of_ble_eq_true rfl) (Nat.le_of_ble_eq_true rfl) dX9_richest_47

set_option maxHeartbeats 4000000 in
set_option maxRecDepth 100000 in
theorem kX9_quiet (l : Launch) (hl9 : l.stackTraces = false) (g : GG) (a : Nat → Nat) (s m im wa L R rf nu : Nat → Int32) (hi lm rn pl sd : Int32) (hI : InvM s) (h : Int32) : MC l yX9_quiet cX9_quiet 5 (some .int) 3 64 0 0 g [.ref (a 0), .int h] (WM g a s m im wa L R rf nu hi lm rn pl sd) (rtE (α := Nat → Int32) (some (.int (ans (wrF h 0 11) (quA s h (nN s))))) (fun x9 => WM g a s x9 im wa L R (rfA (wrF h 0 11) rf) nu hi lm rn pl sd)) (noX) := by
  by_cases hwr : wrF h 0 11 = 0
  · skip
    have hW : wrF h 0 11 = 0 := hwr
    refine MC.of (by decide) (Nat.le_of_ble_eq_true rfl) ?_
    intro p9 e9 s9 m9 args9 below9 meth9 c9 A9 ls cx htab hw hl
    have hx := cx.1
    have hb := cx.2.1
    have hts := cx.2.2.2.2.1
    have hK := cx.2.2.2.2.2.2.2.1
    have hl : lv_has ls 5 [(0, .ref (a 0)), (1, .int h)] := hl
    have hN := hI.1
    have J : ∀ (n9 j : Nat) , j ≤ nN s → nN s < n9 + j → ∀ (H : Heap) (locs : List Loc) (ls : Array Slot), WS g A9 s9.heap (WM g a s m im wa L R rf nu hi lm rn pl sd) H locs → lv_has ls 5 [(0, .ref (a 0)), (1, .int h), (3, .int (quA s h j)), (4, .int (nI j))] → W p9 l e9 (rmC 3 64 0 0) s9 m9 args9 below9 meth9 c9 H locs 0 0 (vx_MQ below9 (PostA g A9 (rtE (α := Nat → Int32) (some (.int (ans (wrF h 0 11) (quA s h (nN s))))) (fun x9 => WM g a s x9 im wa L R (rfA (wrF h 0 11) rf) nu hi lm rn pl sd))) (PxA g A9 (pxR (noX))) args9 s9 0 0 A9) (F0 m9 23 ls []) := by
      intro n9
      induction n9 with
      | zero => intro j  hj hk9; exact absurd hk9 (by omega)
      | succ n9 ih_J =>
        intro j  hj hk9  H locs ls hw hl
        refine lv_iload hx hb dX9_quiet_23 (lv_at hl 3 rfl) ?_
        refine lv_aload_n hx hb dX9_quiet_25 rfl (lv_at hl 0 rfl) ?_
        refine r_get cx hw in_X9 0 (ci := 8) (T := TX9) (N := 13) rfl rfl 0 (by decide) q1169 (fun _ h9 => h9) rfl dX9_quiet_26 ?_
        refine lv_iconst (v := 0) hx hb dX9_quiet_29 (by decide) ?_
        refine r_iald cx hw 1 rfl 0 rfl (by omega) (Nat.le_of_ble_eq_true rfl) dX9_quiet_30 ?_
        refine r_topi (x' := nI (nN s)) (hI.2.1) ?_
        refine lv_icmp_ge (tgt := 61) hx hb dX9_quiet_31 (by decide) (fun c_31 => ?_) (fun c_31 => ?_)
        · skip
          have c_31 : (nN s) ≤ j := (nI_leI (a := (nN s)) (b := j) (by omega) (by omega)).mp c_31
          refine lv_iload_n hx hb dX9_quiet_61 rfl (lv_at hl 2 rfl) ?_
          exact r_iret cx hw (⟨_, by rw [hW, ans_0, show j = nN s by omega], by rw [hW, rfA_0]⟩) (Nat.le_of_ble_eq_true rfl) (Nat.le_of_ble_eq_true rfl) dX9_quiet_62
        · skip
          have c_31 : j < (nN s) := Nat.not_le.mp (fun h9 => c_31 ((nI_leI (a := (nN s)) (b := j) (by omega) (by omega)).mpr h9))
          refine lv_iload_n hx hb dX9_quiet_34 rfl (lv_at hl 2 rfl) ?_
          refine lv_aload_n hx hb dX9_quiet_35 rfl (lv_at hl 0 rfl) ?_
          refine r_get cx hw in_X9 0 (ci := 8) (T := TX9) (N := 13) rfl rfl 0 (by decide) q1169 (fun _ h9 => h9) rfl dX9_quiet_36 ?_
          refine lv_iload hx hb dX9_quiet_39 (lv_at hl 3 rfl) ?_
          refine r_det (r_S cx hw (kX9_speaksIn l hl9 g (a 1) s j (by omega)) (va_cwS 2 hts (lw_S q1270 q1271 q94 q1272) rfl rfl rfl (by decide +kernel) ⟨Nat.le_of_ble_eq_true rfl, Nat.le_of_ble_eq_true rfl⟩) [1] rfl rfl rfl hl.1 rfl (Nat.le_of_ble_eq_true rfl) dX9_quiet_41 ⟨Nat.le_of_ble_eq_true rfl, Nat.le_of_ble_eq_true rfl⟩) cx hw [1] rfl rfl rfl (ws' := WM g a s m im wa L R rf nu hi lm rn pl sd) (rfl) (fun H locs hw => ?_)
          refine W.eq (g2 := F0 m9 44 ls [.int (spI s j), .int (quA s h j)]) rfl ?_
          refine lv_iload_n hx hb dX9_quiet_44 rfl (lv_at hl 1 rfl) ?_
          refine lv_icmp_le (tgt := 52) hx hb dX9_quiet_45 (by decide) (fun c_45 => ?_) (fun c_45 => ?_)
          · skip
            refine lv_iconst (v := 0) hx hb dX9_quiet_52 (by decide) ?_
            refine r_topi (x' := if h < spI s j then 1 else 0) (by rw [if_neg (Int32.not_lt.mpr c_45)]) ?_
            refine lv_iadd hx hb dX9_quiet_53 ?_
            refine lv_istore_n (lv' := [(3, .int ((quA s h j) + (if h < spI s j then 1 else 0))), (0, .ref (a 0)), (1, .int h), (4, .int (nI j))]) hx hb dX9_quiet_54 rfl hl (by decide) rfl (fun ls hl => ?_)
            refine lv_iinc (v := nI (j + 1)) (lv' := [(4, .int (nI (j + 1))), (3, .int ((quA s h j) + (if h < spI s j then 1 else 0))), (0, .ref (a 0)), (1, .int h)]) hx hb dX9_quiet_55 hl (k := 3) rfl (nI_1 j) (by decide) rfl (fun ls hl => ?_)
            refine lv_goto (tgt := 23) hx hb dX9_quiet_58 (by decide) ?_
            exact ih_J (j + 1)  (by omega) (by omega)  _ _ _ (hw) (lv_sub hl [2, 3, 1, 0] rfl)
          · skip
            refine lv_iconst (v := 1) hx hb dX9_quiet_48 (by decide) ?_
            refine lv_goto (tgt := 53) hx hb dX9_quiet_49 (by decide) ?_
            refine r_topi (x' := if h < spI s j then 1 else 0) (by rw [if_pos (Int32.not_le.mp c_45)]) ?_
            refine lv_iadd hx hb dX9_quiet_53 ?_
            refine lv_istore_n (lv' := [(3, .int ((quA s h j) + (if h < spI s j then 1 else 0))), (0, .ref (a 0)), (1, .int h), (4, .int (nI j))]) hx hb dX9_quiet_54 rfl hl (by decide) rfl (fun ls hl => ?_)
            refine lv_iinc (v := nI (j + 1)) (lv' := [(4, .int (nI (j + 1))), (3, .int ((quA s h j) + (if h < spI s j then 1 else 0))), (0, .ref (a 0)), (1, .int h)]) hx hb dX9_quiet_55 hl (k := 3) rfl (nI_1 j) (by decide) rfl (fun ls hl => ?_)
            refine lv_goto (tgt := 23) hx hb dX9_quiet_58 (by decide) ?_
            exact ih_J (j + 1)  (by omega) (by omega)  _ _ _ (hw) (lv_sub hl [2, 3, 1, 0] rfl)
    refine lv_iload_n hx hb dX9_quiet_0 rfl (lv_at hl 1 rfl) ?_
    refine lv_iconst (v := 0) hx hb dX9_quiet_1 (by decide) ?_
    refine lv_bipush (v := 11) hx hb dX9_quiet_2 (by decide) ?_
    refine r_det (r_S cx hw (kX9_wrongBy l hl9 g h 0 11) (va_cwS 3 hts (lw_S q1318 q1319 q94 q1320) rfl rfl rfl (by decide +kernel) ⟨Nat.le_of_ble_eq_true rfl, Nat.le_of_ble_eq_true rfl⟩) [] rfl rfl rfl hl.1 rfl (Nat.le_of_ble_eq_true rfl) dX9_quiet_4 ⟨Nat.le_of_ble_eq_true rfl, Nat.le_of_ble_eq_true rfl⟩) cx hw [] rfl rfl rfl (ws' := WM g a s m im wa L R rf nu hi lm rn pl sd) (rfl) (fun H locs hw => ?_)
    refine W.eq (g2 := F0 m9 7 ls [.int (wrF h 0 11)]) rfl ?_
    refine lv_istore_n (lv' := [(2, .int (wrF h 0 11)), (0, .ref (a 0)), (1, .int h)]) hx hb dX9_quiet_7 rfl hl (by decide) rfl (fun ls hl => ?_)
    refine lv_iload_n hx hb dX9_quiet_8 rfl (lv_at hl 0 rfl) ?_
    refine lv_if_eq (tgt := 18) hx hb dX9_quiet_9 (by decide) (fun c_9 => ?_) (fun c_9 => absurd hwr c_9)
    refine lv_iconst (v := 0) hx hb dX9_quiet_18 (by decide) ?_
    refine lv_istore_n (lv' := [(3, .int 0), (2, .int (wrF h 0 11)), (0, .ref (a 0)), (1, .int h)]) hx hb dX9_quiet_19 rfl hl (by decide) rfl (fun ls hl => ?_)
    refine lv_iconst (v := 0) hx hb dX9_quiet_20 (by decide) ?_
    refine lv_istore (lv' := [(4, .int 0), (3, .int 0), (2, .int (wrF h 0 11)), (0, .ref (a 0)), (1, .int h)]) hx hb dX9_quiet_21 hl (by decide) rfl (fun ls hl => ?_)
    exact J (nN s + 1) 0  (by omega) (by omega)  _ _ _ (hw) (lv_sub hl [3, 4, 1, 0] rfl)
  · skip
    have hW : wrF h 0 11 = wrF h 0 11 := rfl
    have hne : ¬ wrF h 0 11 = 0 := by rw [hW]; exact hwr
    refine MC.of (by decide) (Nat.le_of_ble_eq_true rfl) ?_
    intro p9 e9 s9 m9 args9 below9 meth9 c9 A9 ls cx htab hw hl
    have hx := cx.1
    have hb := cx.2.1
    have hts := cx.2.2.2.2.1
    have hK := cx.2.2.2.2.2.2.2.1
    have hl : lv_has ls 5 [(0, .ref (a 0)), (1, .int h)] := hl
    refine lv_iload_n hx hb dX9_quiet_0 rfl (lv_at hl 1 rfl) ?_
    refine lv_iconst (v := 0) hx hb dX9_quiet_1 (by decide) ?_
    refine lv_bipush (v := 11) hx hb dX9_quiet_2 (by decide) ?_
    refine r_det (r_S cx hw (kX9_wrongBy l hl9 g h 0 11) (va_cwS 3 hts (lw_S q1318 q1319 q94 q1320) rfl rfl rfl (by decide +kernel) ⟨Nat.le_of_ble_eq_true rfl, Nat.le_of_ble_eq_true rfl⟩) [] rfl rfl rfl hl.1 rfl (Nat.le_of_ble_eq_true rfl) dX9_quiet_4 ⟨Nat.le_of_ble_eq_true rfl, Nat.le_of_ble_eq_true rfl⟩) cx hw [] rfl rfl rfl (ws' := WM g a s m im wa L R rf nu hi lm rn pl sd) (rfl) (fun H locs hw => ?_)
    refine W.eq (g2 := F0 m9 7 ls [.int (wrF h 0 11)]) rfl ?_
    refine lv_istore_n (lv' := [(2, .int (wrF h 0 11)), (0, .ref (a 0)), (1, .int h)]) hx hb dX9_quiet_7 rfl hl (by decide) rfl (fun ls hl => ?_)
    refine lv_iload_n hx hb dX9_quiet_8 rfl (lv_at hl 0 rfl) ?_
    refine lv_if_eq (tgt := 18) hx hb dX9_quiet_9 (by decide) (fun c_9 => absurd c_9 hwr) (fun c_9 => ?_)
    refine lv_aload_n hx hb dX9_quiet_12 rfl (lv_at hl 1 rfl) ?_
    refine lv_iload_n hx hb dX9_quiet_13 rfl (lv_at hl 0 rfl) ?_
    refine r_det (r_V cx hw (kX9_no l hl9 g a s m im wa L R rf nu hi lm rn pl sd (wrF h 0 11) (wrF_ok hwr)) (cwV 1 hts (lw_V q1213 q1215 qs65 q94 q1216) rfl rfl rfl (by decide +kernel) ⟨Nat.le_of_ble_eq_true rfl, Nat.le_of_ble_eq_true rfl⟩) (r_recv hK hw (k := 0) (ci := 8) rfl rfl) [0, 1, 2, 3, 4, 5, 6, 7, 8] rfl rfl rfl hl.1 rfl (Nat.le_of_ble_eq_true rfl) dX9_quiet_14 ⟨Nat.le_of_ble_eq_true rfl, Nat.le_of_ble_eq_true rfl⟩) cx hw [0, 1, 2, 3, 4, 5, 6, 7, 8] rfl rfl rfl (ws' := WM g a s m im wa L R (rfU rf (wrF h 0 11)) nu hi lm rn pl sd) (rfl) (fun H locs hw => ?_)
    refine W.eq (g2 := F0 m9 17 ls [.int (wrF h 0 11)]) rfl ?_
    exact r_iret cx hw (⟨_, by rw [ans_n hne, hW], by rw [rfA_n hne, hW]⟩) (Nat.le_of_ble_eq_true rfl) (Nat.le_of_ble_eq_true rfl) dX9_quiet_17

set_option maxHeartbeats 4000000 in
set_option maxRecDepth 100000 in
theorem kX9_thirst (l : Launch) (hl9 : l.stackTraces = false) (g : GG) (a : Nat → Nat) (s m im wa L R rf nu : Nat → Int32) (hi lm rn pl sd : Int32) (hI : InvM s)  : MC l yX9_thirst cX9_thirst 3 (some .int) 1 21 0 0 g [.ref (a 0)] (WM g a s m im wa L R rf nu hi lm rn pl sd) (rtE (α := Nat → Int32) (some (.int (ans 0 (thA s (nN s))))) (fun x9 => WM g a s x9 im wa L R (rfA 0 rf) nu hi lm rn pl sd)) (noX) := by
  refine MC.of (by decide) (Nat.le_of_ble_eq_true rfl) ?_
  intro p9 e9 s9 m9 args9 below9 meth9 c9 A9 ls cx htab hw hl
  have hx := cx.1
  have hb := cx.2.1
  have hts := cx.2.2.2.2.1
  have hK := cx.2.2.2.2.2.2.2.1
  have hl : lv_has ls 3 [(0, .ref (a 0))] := hl
  have hN := hI.1
  have J : ∀ (n9 j : Nat) , j ≤ nN s → nN s < n9 + j → ∀ (H : Heap) (locs : List Loc) (ls : Array Slot), WS g A9 s9.heap (WM g a s m im wa L R rf nu hi lm rn pl sd) H locs → lv_has ls 3 [(0, .ref (a 0)), (1, .int (thA s j)), (2, .int (nI j))] → W p9 l e9 (rmC 1 21 0 0) s9 m9 args9 below9 meth9 c9 H locs 0 0 (vx_MQ below9 (PostA g A9 (rtE (α := Nat → Int32) (some (.int (ans 0 (thA s (nN s))))) (fun x9 => WM g a s x9 im wa L R (rfA 0 rf) nu hi lm rn pl sd))) (PxA g A9 (pxR (noX))) args9 s9 0 0 A9) (F0 m9 4 ls []) := by
    intro n9
    induction n9 with
    | zero => intro j  hj hk9; exact absurd hk9 (by omega)
    | succ n9 ih_J =>
      intro j  hj hk9  H locs ls hw hl
      refine lv_iload_n hx hb dX9_thirst_4 rfl (lv_at hl 2 rfl) ?_
      refine lv_aload_n hx hb dX9_thirst_5 rfl (lv_at hl 0 rfl) ?_
      refine r_get cx hw in_X9 0 (ci := 8) (T := TX9) (N := 13) rfl rfl 0 (by decide) q1169 (fun _ h9 => h9) rfl dX9_thirst_6 ?_
      refine lv_iconst (v := 0) hx hb dX9_thirst_9 (by decide) ?_
      refine r_iald cx hw 1 rfl 0 rfl (by omega) (Nat.le_of_ble_eq_true rfl) dX9_thirst_10 ?_
      refine r_topi (x' := nI (nN s)) (hI.2.1) ?_
      refine lv_icmp_ge (tgt := 36) hx hb dX9_thirst_11 (by decide) (fun c_11 => ?_) (fun c_11 => ?_)
      · skip
        have c_11 : (nN s) ≤ j := (nI_leI (a := (nN s)) (b := j) (by omega) (by omega)).mp c_11
        refine lv_iload_n hx hb dX9_thirst_36 rfl (lv_at hl 1 rfl) ?_
        exact r_iret cx hw (⟨_, by rw [ans_0, show j = nN s by omega], by rw [rfA_0]⟩) (Nat.le_of_ble_eq_true rfl) (Nat.le_of_ble_eq_true rfl) dX9_thirst_37
      · skip
        have c_11 : j < (nN s) := Nat.not_le.mp (fun h9 => c_11 ((nI_leI (a := (nN s)) (b := j) (by omega) (by omega)).mpr h9))
        refine lv_iload_n hx hb dX9_thirst_14 rfl (lv_at hl 1 rfl) ?_
        refine lv_aload_n hx hb dX9_thirst_15 rfl (lv_at hl 0 rfl) ?_
        refine r_get cx hw in_X9 0 (ci := 8) (T := TX9) (N := 13) rfl rfl 0 (by decide) q1169 (fun _ h9 => h9) rfl dX9_thirst_16 ?_
        refine lv_iload_n hx hb dX9_thirst_19 rfl (lv_at hl 2 rfl) ?_
        refine lv_iconst (v := 0) hx hb dX9_thirst_20 (by decide) ?_
        refine r_det (r_S cx hw (kX9_of l hl9 g j 0) (va_cwS 2 hts (lw_S q1254 q1255 q94 q1256) rfl rfl rfl (by decide +kernel) ⟨Nat.le_of_ble_eq_true rfl, Nat.le_of_ble_eq_true rfl⟩) [] rfl rfl rfl hl.1 rfl (Nat.le_of_ble_eq_true rfl) dX9_thirst_21 ⟨Nat.le_of_ble_eq_true rfl, Nat.le_of_ble_eq_true rfl⟩) cx hw [] rfl rfl rfl (ws' := WM g a s m im wa L R rf nu hi lm rn pl sd) (rfl) (fun H locs hw => ?_)
        refine W.eq (g2 := F0 m9 24 ls [.int (nI (5 + 7 * j)), .ref (a 1), .int (thA s j)]) rfl ?_
        refine r_iald cx hw 1 rfl (5 + 7 * j) rfl (by omega) (Nat.le_of_ble_eq_true rfl) dX9_thirst_24 ?_
        refine r_det (r_S cx hw (kX9_drinksBy l hl9 g (s (5 + 7 * j))) (va_cwS 1 hts (lw_S q1285 q1286 q94 q1287) rfl rfl rfl (by decide +kernel) ⟨Nat.le_of_ble_eq_true rfl, Nat.le_of_ble_eq_true rfl⟩) [] rfl rfl rfl hl.1 rfl (Nat.le_of_ble_eq_true rfl) dX9_thirst_25 ⟨Nat.le_of_ble_eq_true rfl, Nat.le_of_ble_eq_true rfl⟩) cx hw [] rfl rfl rfl (ws' := WM g a s m im wa L R rf nu hi lm rn pl sd) (rfl) (fun H locs hw => ?_)
        refine W.eq (g2 := F0 m9 28 ls [.int (drB (s (5 + 7 * j))), .int (thA s j)]) rfl ?_
        refine lv_iadd hx hb dX9_thirst_28 ?_
        refine lv_istore_n (lv' := [(1, .int ((thA s j) + (drB (s (5 + 7 * j))))), (0, .ref (a 0)), (2, .int (nI j))]) hx hb dX9_thirst_29 rfl hl (by decide) rfl (fun ls hl => ?_)
        refine lv_iinc (v := nI (j + 1)) (lv' := [(2, .int (nI (j + 1))), (1, .int ((thA s j) + (drB (s (5 + 7 * j))))), (0, .ref (a 0))]) hx hb dX9_thirst_30 hl (k := 2) rfl (nI_1 j) (by decide) rfl (fun ls hl => ?_)
        refine lv_goto (tgt := 4) hx hb dX9_thirst_33 (by decide) ?_
        exact ih_J (j + 1)  (by omega) (by omega)  _ _ _ (hw) (lv_sub hl [2, 1, 0] rfl)
  refine lv_iconst (v := 0) hx hb dX9_thirst_0 (by decide) ?_
  refine lv_istore_n (lv' := [(1, .int 0), (0, .ref (a 0))]) hx hb dX9_thirst_1 rfl hl (by decide) rfl (fun ls hl => ?_)
  refine lv_iconst (v := 0) hx hb dX9_thirst_2 (by decide) ?_
  refine lv_istore_n (lv' := [(2, .int 0), (1, .int 0), (0, .ref (a 0))]) hx hb dX9_thirst_3 rfl hl (by decide) rfl (fun ls hl => ?_)
  exact J (nN s + 1) 0  (by omega) (by omega)  _ _ _ (hw) (lv_sub hl [2, 1, 0] rfl)

set_option maxHeartbeats 4000000 in
set_option maxRecDepth 100000 in
theorem kX9_lasts (l : Launch) (hl9 : l.stackTraces = false) (g : GG) (a : Nat → Nat) (s m im wa L R rf nu : Nat → Int32) (hi lm rn pl sd : Int32) (hI : InvM s) (p : Int32) : MC l yX9_lasts cX9_lasts 2 (some .int) 2 43 0 0 g [.ref (a 0), .int p] (WM g a s m im wa L R rf nu hi lm rn pl sd) (rtE (α := Nat → Int32) (some (.int (ans (wPsn s p) (vLst s p)))) (fun x9 => WM g a s x9 im wa L R (rfA (wPsn s p) rf) nu hi lm rn pl sd)) (noX) := by
  by_cases hps_p : psB s p = true
  · skip
    obtain ⟨k, hk, rfl⟩ := psB_rng hI hps_p
    have hN := hI.1
    have ek : tN (nI k) = k := tN_nI (by omega)
    have hW : wPsn s (nI k) = 0 := by simp [wPsn, hps_p]
    refine MC.of (by decide) (Nat.le_of_ble_eq_true rfl) ?_
    intro p9 e9 s9 m9 args9 below9 meth9 c9 A9 ls cx htab hw hl
    have hx := cx.1
    have hb := cx.2.1
    have hts := cx.2.2.2.2.1
    have hK := cx.2.2.2.2.2.2.2.1
    have hl : lv_has ls 2 [(0, .ref (a 0)), (1, .int (nI k))] := hl
    refine lv_aload_n hx hb dX9_lasts_0 rfl (lv_at hl 0 rfl) ?_
    refine lv_iload_n hx hb dX9_lasts_1 rfl (lv_at hl 1 rfl) ?_
    refine r_det (r_V cx hw (kX9_isPerson l hl9 g a s m im wa L R rf nu hi lm rn pl sd (nI k)) (cwV 1 hts (lw_V q1257 q1259 qs72 q94 q1260) rfl rfl rfl (by decide +kernel) ⟨Nat.le_of_ble_eq_true rfl, Nat.le_of_ble_eq_true rfl⟩) (r_recv hK hw (k := 0) (ci := 8) rfl rfl) [0, 1, 2, 3, 4, 5, 6, 7, 8] rfl rfl rfl hl.1 rfl (Nat.le_of_ble_eq_true rfl) dX9_lasts_2 ⟨Nat.le_of_ble_eq_true rfl, Nat.le_of_ble_eq_true rfl⟩) cx hw [0, 1, 2, 3, 4, 5, 6, 7, 8] rfl rfl rfl (ws' := WM g a s m im wa L R rf nu hi lm rn pl sd) (rfl) (fun H locs hw => ?_)
    refine W.eq (g2 := F0 m9 5 ls [.int (bI (psB s (nI k)))]) rfl ?_
    refine lv_if_eq (tgt := 35) hx hb dX9_lasts_5 (by decide) (fun c_5 => absurd c_5 (by rw [hps_p]; decide)) (fun c_5 => ?_)
    refine lv_aload_n hx hb dX9_lasts_8 rfl (lv_at hl 0 rfl) ?_
    refine r_get cx hw in_X9 0 (ci := 8) (T := TX9) (N := 13) rfl rfl 0 (by decide) q1169 (fun _ h9 => h9) rfl dX9_lasts_9 ?_
    refine lv_iload_n hx hb dX9_lasts_12 rfl (lv_at hl 1 rfl) ?_
    refine lv_iconst (v := 3) hx hb dX9_lasts_13 (by decide) ?_
    refine r_det (r_S cx hw (kX9_of l hl9 g k 3) (va_cwS 2 hts (lw_S q1254 q1255 q94 q1256) rfl rfl rfl (by decide +kernel) ⟨Nat.le_of_ble_eq_true rfl, Nat.le_of_ble_eq_true rfl⟩) [] rfl rfl rfl hl.1 rfl (Nat.le_of_ble_eq_true rfl) dX9_lasts_14 ⟨Nat.le_of_ble_eq_true rfl, Nat.le_of_ble_eq_true rfl⟩) cx hw [] rfl rfl rfl (ws' := WM g a s m im wa L R rf nu hi lm rn pl sd) (rfl) (fun H locs hw => ?_)
    refine W.eq (g2 := F0 m9 17 ls [.int (nI (5 + 7 * k + 3)), .ref (a 1)]) rfl ?_
    refine r_iald cx hw 1 rfl (5 + 7 * k + 3) rfl (by omega) (Nat.le_of_ble_eq_true rfl) dX9_lasts_17 ?_
    refine lv_aload_n hx hb dX9_lasts_18 rfl (lv_at hl 0 rfl) ?_
    refine r_get cx hw in_X9 0 (ci := 8) (T := TX9) (N := 13) rfl rfl 0 (by decide) q1169 (fun _ h9 => h9) rfl dX9_lasts_19 ?_
    refine lv_iload_n hx hb dX9_lasts_22 rfl (lv_at hl 1 rfl) ?_
    refine lv_iconst (v := 0) hx hb dX9_lasts_23 (by decide) ?_
    refine r_det (r_S cx hw (kX9_of l hl9 g k 0) (va_cwS 2 hts (lw_S q1254 q1255 q94 q1256) rfl rfl rfl (by decide +kernel) ⟨Nat.le_of_ble_eq_true rfl, Nat.le_of_ble_eq_true rfl⟩) [] rfl rfl rfl hl.1 rfl (Nat.le_of_ble_eq_true rfl) dX9_lasts_24 ⟨Nat.le_of_ble_eq_true rfl, Nat.le_of_ble_eq_true rfl⟩) cx hw [] rfl rfl rfl (ws' := WM g a s m im wa L R rf nu hi lm rn pl sd) (rfl) (fun H locs hw => ?_)
    refine W.eq (g2 := F0 m9 27 ls [.int (nI (5 + 7 * k)), .ref (a 1), .int (s (5 + 7 * k + 3))]) rfl ?_
    refine r_iald cx hw 1 rfl (5 + 7 * k) rfl (by omega) (Nat.le_of_ble_eq_true rfl) dX9_lasts_27 ?_
    refine r_det (r_S cx hw (kX9_drinksBy l hl9 g (s (5 + 7 * k))) (va_cwS 1 hts (lw_S q1285 q1286 q94 q1287) rfl rfl rfl (by decide +kernel) ⟨Nat.le_of_ble_eq_true rfl, Nat.le_of_ble_eq_true rfl⟩) [] rfl rfl rfl hl.1 rfl (Nat.le_of_ble_eq_true rfl) dX9_lasts_28 ⟨Nat.le_of_ble_eq_true rfl, Nat.le_of_ble_eq_true rfl⟩) cx hw [] rfl rfl rfl (ws' := WM g a s m im wa L R rf nu hi lm rn pl sd) (rfl) (fun H locs hw => ?_)
    refine W.eq (g2 := F0 m9 31 ls [.int (drB (s (5 + 7 * k))), .int (s (5 + 7 * k + 3))]) rfl ?_
    refine lv_idiv hx hb dX9_lasts_31 (drB_nz _) ?_
    refine lv_goto (tgt := 40) hx hb dX9_lasts_32 (by decide) ?_
    exact r_iret cx hw (⟨_, by rw [hW, ans_0]; rw [vLst, ek], by rw [hW, rfA_0]⟩) (Nat.le_of_ble_eq_true rfl) (Nat.le_of_ble_eq_true rfl) dX9_lasts_40
  · skip
    have hps_p : psB s p = false := by simpa using hps_p
    have hW : wPsn s p = -1 := by simp [wPsn, hps_p]
    have hne : ¬ wPsn s p = 0 := by rw [hW]; decide
    refine MC.of (by decide) (Nat.le_of_ble_eq_true rfl) ?_
    intro p9 e9 s9 m9 args9 below9 meth9 c9 A9 ls cx htab hw hl
    have hx := cx.1
    have hb := cx.2.1
    have hts := cx.2.2.2.2.1
    have hK := cx.2.2.2.2.2.2.2.1
    have hl : lv_has ls 2 [(0, .ref (a 0)), (1, .int p)] := hl
    refine lv_aload_n hx hb dX9_lasts_0 rfl (lv_at hl 0 rfl) ?_
    refine lv_iload_n hx hb dX9_lasts_1 rfl (lv_at hl 1 rfl) ?_
    refine r_det (r_V cx hw (kX9_isPerson l hl9 g a s m im wa L R rf nu hi lm rn pl sd p) (cwV 1 hts (lw_V q1257 q1259 qs72 q94 q1260) rfl rfl rfl (by decide +kernel) ⟨Nat.le_of_ble_eq_true rfl, Nat.le_of_ble_eq_true rfl⟩) (r_recv hK hw (k := 0) (ci := 8) rfl rfl) [0, 1, 2, 3, 4, 5, 6, 7, 8] rfl rfl rfl hl.1 rfl (Nat.le_of_ble_eq_true rfl) dX9_lasts_2 ⟨Nat.le_of_ble_eq_true rfl, Nat.le_of_ble_eq_true rfl⟩) cx hw [0, 1, 2, 3, 4, 5, 6, 7, 8] rfl rfl rfl (ws' := WM g a s m im wa L R rf nu hi lm rn pl sd) (rfl) (fun H locs hw => ?_)
    refine W.eq (g2 := F0 m9 5 ls [.int (bI (psB s p))]) rfl ?_
    refine lv_if_eq (tgt := 35) hx hb dX9_lasts_5 (by decide) (fun c_5 => ?_) (fun c_5 => absurd c_5 (by rw [hps_p]; decide))
    refine lv_aload_n hx hb dX9_lasts_35 rfl (lv_at hl 0 rfl) ?_
    refine lv_iconst (v := (-1)) hx hb dX9_lasts_36 (by decide) ?_
    refine r_det (r_V cx hw (kX9_no l hl9 g a s m im wa L R rf nu hi lm rn pl sd (-1) (by unfold okC; decide)) (cwV 1 hts (lw_V q1213 q1215 qs65 q94 q1216) rfl rfl rfl (by decide +kernel) ⟨Nat.le_of_ble_eq_true rfl, Nat.le_of_ble_eq_true rfl⟩) (r_recv hK hw (k := 0) (ci := 8) rfl rfl) [0, 1, 2, 3, 4, 5, 6, 7, 8] rfl rfl rfl hl.1 rfl (Nat.le_of_ble_eq_true rfl) dX9_lasts_37 ⟨Nat.le_of_ble_eq_true rfl, Nat.le_of_ble_eq_true rfl⟩) cx hw [0, 1, 2, 3, 4, 5, 6, 7, 8] rfl rfl rfl (ws' := WM g a s m im wa L R (rfU rf (-1)) nu hi lm rn pl sd) (rfl) (fun H locs hw => ?_)
    refine W.eq (g2 := F0 m9 40 ls [.int (-1)]) rfl ?_
    exact r_iret cx hw (⟨_, by rw [ans_n hne, hW], by rw [rfA_n hne, hW]⟩) (Nat.le_of_ble_eq_true rfl) (Nat.le_of_ble_eq_true rfl) dX9_lasts_40

set_option maxHeartbeats 4000000 in
set_option maxRecDepth 100000 in
theorem kX9_carries (l : Launch) (hl9 : l.stackTraces = false) (g : GG) (a : Nat → Nat) (s m im wa L R rf nu : Nat → Int32) (hi lm rn pl sd : Int32) (hI : InvM s) (w9 : Int32) : MC l yX9_carries cX9_carries 6 (some .int) 1 22 0 0 g [.ref (a 0), .int w9] (WM g a s m im wa L R rf nu hi lm rn pl sd) (rtE (α := Nat → Int32) (some (.int (ans (wBit w9) (vCar s w9)))) (fun x9 => WM g a s x9 im wa L R (rfA (wBit w9) rf) nu hi lm rn pl sd)) (noX) := by
  by_cases hin_w9 : isInB w9 0 1 = true
  · skip
    have hW : wBit w9 = 0 := by simp [wBit, hin_w9]
    refine MC.of (by decide) (Nat.le_of_ble_eq_true rfl) ?_
    intro p9 e9 s9 m9 args9 below9 meth9 c9 A9 ls cx htab hw hl
    have hx := cx.1
    have hb := cx.2.1
    have hts := cx.2.2.2.2.1
    have hK := cx.2.2.2.2.2.2.2.1
    have hl : lv_has ls 6 [(0, .ref (a 0)), (1, .int w9)] := hl
    have hN := hI.1
    have J : ∀ (n9 j : Nat) , j ≤ nN s → nN s < n9 + j → ∀ (H : Heap) (locs : List Loc) (ls : Array Slot), WS g A9 s9.heap (WM g a s m im wa L R rf nu hi lm rn pl sd) H locs → lv_has ls 6 [(0, .ref (a 0)), (1, .int w9), (2, .int ((caA s j).1)), (3, .int ((caA s j).2)), (4, .int (nI j))] → W p9 l e9 (rmC 1 22 0 0) s9 m9 args9 below9 meth9 c9 H locs 0 0 (vx_MQ below9 (PostA g A9 (rtE (α := Nat → Int32) (some (.int (ans (wBit w9) (vCar s w9)))) (fun x9 => WM g a s x9 im wa L R (rfA (wBit w9) rf) nu hi lm rn pl sd))) (PxA g A9 (pxR (noX))) args9 s9 0 0 A9) (F0 m9 23 ls []) := by
      intro n9
      induction n9 with
      | zero => intro j  hj hk9; exact absurd hk9 (by omega)
      | succ n9 ih_J =>
        intro j  hj hk9  H locs ls hw hl
        refine lv_iload hx hb dX9_carries_23 (lv_at hl 4 rfl) ?_
        refine lv_aload_n hx hb dX9_carries_25 rfl (lv_at hl 0 rfl) ?_
        refine r_get cx hw in_X9 0 (ci := 8) (T := TX9) (N := 13) rfl rfl 0 (by decide) q1169 (fun _ h9 => h9) rfl dX9_carries_26 ?_
        refine lv_iconst (v := 0) hx hb dX9_carries_29 (by decide) ?_
        refine r_iald cx hw 1 rfl 0 rfl (by omega) (Nat.le_of_ble_eq_true rfl) dX9_carries_30 ?_
        refine r_topi (x' := nI (nN s)) (hI.2.1) ?_
        refine lv_icmp_ge (tgt := 114) hx hb dX9_carries_31 (by decide) (fun c_31 => ?_) (fun c_31 => ?_)
        · skip
          have c_31 : (nN s) ≤ j := (nI_leI (a := (nN s)) (b := j) (by omega) (by omega)).mp c_31
          refine lv_iload_n hx hb dX9_carries_114 rfl (lv_at hl 1 rfl) ?_
          refine lv_if_ne (tgt := 122) hx hb dX9_carries_115 (by decide) (fun c_115 => ?_) (fun c_115 => ?_)
          · skip
            refine lv_iload_n hx hb dX9_carries_122 rfl (lv_at hl 3 rfl) ?_
            exact r_iret cx hw (⟨_, by rw [hW, ans_0, vCar, if_neg c_115, show j = nN s by omega], by rw [hW, rfA_0]⟩) (Nat.le_of_ble_eq_true rfl) (Nat.le_of_ble_eq_true rfl) dX9_carries_123
          · skip
            refine lv_iload_n hx hb dX9_carries_118 rfl (lv_at hl 2 rfl) ?_
            refine lv_goto (tgt := 123) hx hb dX9_carries_119 (by decide) ?_
            exact r_iret cx hw (⟨_, by rw [hW, ans_0, vCar, if_pos c_115, show j = nN s by omega], by rw [hW, rfA_0]⟩) (Nat.le_of_ble_eq_true rfl) (Nat.le_of_ble_eq_true rfl) dX9_carries_123
        · skip
          have c_31 : j < (nN s) := Nat.not_le.mp (fun h9 => c_31 ((nI_leI (a := (nN s)) (b := j) (by omega) (by omega)).mpr h9))
          obtain ⟨hf8, hf9⟩ := hI.2.2 j (by omega)
          refine lv_aload_n hx hb dX9_carries_34 rfl (lv_at hl 0 rfl) ?_
          refine r_get cx hw in_X9 0 (ci := 8) (T := TX9) (N := 13) rfl rfl 0 (by decide) q1169 (fun _ h9 => h9) rfl dX9_carries_35 ?_
          refine lv_iload hx hb dX9_carries_38 (lv_at hl 4 rfl) ?_
          refine lv_bipush (v := 6) hx hb dX9_carries_40 (by decide) ?_
          refine r_det (r_S cx hw (kX9_of l hl9 g j 6) (va_cwS 2 hts (lw_S q1254 q1255 q94 q1256) rfl rfl rfl (by decide +kernel) ⟨Nat.le_of_ble_eq_true rfl, Nat.le_of_ble_eq_true rfl⟩) [] rfl rfl rfl hl.1 rfl (Nat.le_of_ble_eq_true rfl) dX9_carries_42 ⟨Nat.le_of_ble_eq_true rfl, Nat.le_of_ble_eq_true rfl⟩) cx hw [] rfl rfl rfl (ws' := WM g a s m im wa L R rf nu hi lm rn pl sd) (rfl) (fun H locs hw => ?_)
          refine W.eq (g2 := F0 m9 45 ls [.int (nI (5 + 7 * j + 6)), .ref (a 1)]) rfl ?_
          refine r_iald cx hw 1 rfl (5 + 7 * j + 6) rfl (by omega) (Nat.le_of_ble_eq_true rfl) dX9_carries_45 ?_
          refine lv_istore (lv' := [(5, .int (s (5 + 7 * j + 6))), (0, .ref (a 0)), (1, .int w9), (2, .int ((caA s j).1)), (3, .int ((caA s j).2)), (4, .int (nI j))]) hx hb dX9_carries_46 hl (by decide) rfl (fun ls hl => ?_)
          refine lv_iload hx hb dX9_carries_48 (lv_at hl 0 rfl) ?_
          refine lv_iload hx hb dX9_carries_50 (lv_at hl 5 rfl) ?_
          refine lv_icmp_eq (tgt := 108) hx hb dX9_carries_52 (by decide) (fun c_52 => ?_) (fun c_52 => ?_)
          · skip
            refine lv_iinc (v := nI (j + 1)) (lv' := [(4, .int (nI (j + 1))), (5, .int (s (5 + 7 * j + 6))), (0, .ref (a 0)), (1, .int w9), (2, .int ((caA s j).1)), (3, .int ((caA s j).2))]) hx hb dX9_carries_108 hl (k := 5) rfl (nI_1 j) (by decide) rfl (fun ls hl => ?_)
            refine lv_goto (tgt := 23) hx hb dX9_carries_111 (by decide) ?_
            have e9 : caA s (j + 1) = caA s j := by
              show caS s j (caA s j) = _
              rw [caS, if_pos c_52]
            exact ih_J (j + 1)  (by omega) (by omega)  _ _ _ (hw) (by rw [e9]; exact lv_sub hl [2, 3, 4, 5, 0] rfl)
          · skip
            refine lv_iload hx hb dX9_carries_55 (lv_at hl 0 rfl) ?_
            refine lv_aload_n hx hb dX9_carries_57 rfl (lv_at hl 1 rfl) ?_
            refine r_get cx hw in_X9 0 (ci := 8) (T := TX9) (N := 13) rfl rfl 0 (by decide) q1169 (fun _ h9 => h9) rfl dX9_carries_58 ?_
            refine lv_iconst (v := 0) hx hb dX9_carries_61 (by decide) ?_
            refine r_iald cx hw 1 rfl 0 rfl (by omega) (Nat.le_of_ble_eq_true rfl) dX9_carries_62 ?_
            refine lv_icmp_lt (tgt := 69) hx hb dX9_carries_63 (by decide) (fun c_63 => ?_) (fun c_63 => ?_)
            · skip
              refine lv_iload_n hx hb dX9_carries_69 rfl (lv_at hl 3 rfl) ?_
              refine lv_iconst (v := 1) hx hb dX9_carries_70 (by decide) ?_
              refine lv_iload hx hb dX9_carries_71 (lv_at hl 0 rfl) ?_
              refine lv_ishl hx hb dX9_carries_73 ?_
              refine lv_ior hx hb dX9_carries_74 ?_
              refine lv_istore_n (lv' := [(2, .int (((caA s j).1) ||| ((1 : Int32) <<< ((s (5 + 7 * j + 6)) &&& 31)))), (5, .int (s (5 + 7 * j + 6))), (0, .ref (a 0)), (1, .int w9), (3, .int ((caA s j).2)), (4, .int (nI j))]) hx hb dX9_carries_75 rfl hl (by decide) rfl (fun ls hl => ?_)
              refine lv_iload_n hx hb dX9_carries_76 rfl (lv_at hl 4 rfl) ?_
              refine lv_iload hx hb dX9_carries_77 (lv_at hl 1 rfl) ?_
              refine lv_iload hx hb dX9_carries_79 (lv_at hl 5 rfl) ?_
              refine lv_icmp_le (tgt := 105) hx hb dX9_carries_81 (by decide) (fun c_81 => ?_) (fun c_81 => ?_)
              · skip
                refine lv_iconst (v := 0) hx hb dX9_carries_105 (by decide) ?_
                refine r_topi (x' := if nI j < s (5 + 7 * j + 6) ∧ s (5 + 7 * frN s j + 6) = nI j then 1 else 0) (by rw [if_neg (fun h9 => Int32.not_le.mpr h9.1 c_81)]) ?_
                refine lv_iadd hx hb dX9_carries_106 ?_
                refine lv_istore_n (lv' := [(3, .int (((caA s j).2) + (if nI j < s (5 + 7 * j + 6) ∧ s (5 + 7 * frN s j + 6) = nI j then 1 else 0))), (2, .int (((caA s j).1) ||| ((1 : Int32) <<< ((s (5 + 7 * j + 6)) &&& 31)))), (5, .int (s (5 + 7 * j + 6))), (0, .ref (a 0)), (1, .int w9), (4, .int (nI j))]) hx hb dX9_carries_107 rfl hl (by decide) rfl (fun ls hl => ?_)
                refine lv_iinc (v := nI (j + 1)) (lv' := [(4, .int (nI (j + 1))), (3, .int (((caA s j).2) + (if nI j < s (5 + 7 * j + 6) ∧ s (5 + 7 * frN s j + 6) = nI j then 1 else 0))), (2, .int (((caA s j).1) ||| ((1 : Int32) <<< ((s (5 + 7 * j + 6)) &&& 31)))), (5, .int (s (5 + 7 * j + 6))), (0, .ref (a 0)), (1, .int w9)]) hx hb dX9_carries_108 hl (k := 5) rfl (nI_1 j) (by decide) rfl (fun ls hl => ?_)
                refine lv_goto (tgt := 23) hx hb dX9_carries_111 (by decide) ?_
                have e9 : caA s (j + 1) = ((caA s j).1 ||| (1 <<< (s (5 + 7 * j + 6) &&& 31)), (caA s j).2 + (if nI j < s (5 + 7 * j + 6) ∧ s (5 + 7 * frN s j + 6) = nI j then 1 else 0)) := by
                  show caS s j (caA s j) = _
                  rw [caS, if_neg c_52, if_neg (Int32.not_le.mpr c_63)]
                exact ih_J (j + 1)  (by omega) (by omega)  _ _ _ (hw) (by rw [e9]; exact lv_sub hl [4, 5, 2, 1, 0] rfl)
              · skip
                refine lv_aload_n hx hb dX9_carries_84 rfl (lv_at hl 2 rfl) ?_
                refine r_get cx hw in_X9 0 (ci := 8) (T := TX9) (N := 13) rfl rfl 0 (by decide) q1169 (fun _ h9 => h9) rfl dX9_carries_85 ?_
                refine lv_iload hx hb dX9_carries_88 (lv_at hl 1 rfl) ?_
                refine r_topi (x' := nI (frN s j)) (hf9) ?_
                refine lv_bipush (v := 6) hx hb dX9_carries_90 (by decide) ?_
                refine r_det (r_S cx hw (kX9_of l hl9 g (frN s j) 6) (va_cwS 2 hts (lw_S q1254 q1255 q94 q1256) rfl rfl rfl (by decide +kernel) ⟨Nat.le_of_ble_eq_true rfl, Nat.le_of_ble_eq_true rfl⟩) [] rfl rfl rfl hl.1 rfl (Nat.le_of_ble_eq_true rfl) dX9_carries_92 ⟨Nat.le_of_ble_eq_true rfl, Nat.le_of_ble_eq_true rfl⟩) cx hw [] rfl rfl rfl (ws' := WM g a s m im wa L R rf nu hi lm rn pl sd) (rfl) (fun H locs hw => ?_)
                refine W.eq (g2 := F0 m9 95 ls [.int (nI (5 + 7 * (frN s j) + 6)), .ref (a 1), .int ((caA s j).2)]) rfl ?_
                refine r_iald cx hw 1 rfl (5 + 7 * (frN s j) + 6) rfl (by omega) (Nat.le_of_ble_eq_true rfl) dX9_carries_95 ?_
                refine lv_iload hx hb dX9_carries_96 (lv_at hl 5 rfl) ?_
                refine lv_icmp_ne (tgt := 105) hx hb dX9_carries_98 (by decide) (fun c_98 => ?_) (fun c_98 => ?_)
                · skip
                  refine lv_iconst (v := 0) hx hb dX9_carries_105 (by decide) ?_
                  refine r_topi (x' := if nI j < s (5 + 7 * j + 6) ∧ s (5 + 7 * frN s j + 6) = nI j then 1 else 0) (by rw [if_neg (fun h9 => c_98 h9.2)]) ?_
                  refine lv_iadd hx hb dX9_carries_106 ?_
                  refine lv_istore_n (lv' := [(3, .int (((caA s j).2) + (if nI j < s (5 + 7 * j + 6) ∧ s (5 + 7 * frN s j + 6) = nI j then 1 else 0))), (2, .int (((caA s j).1) ||| ((1 : Int32) <<< ((s (5 + 7 * j + 6)) &&& 31)))), (5, .int (s (5 + 7 * j + 6))), (0, .ref (a 0)), (1, .int w9), (4, .int (nI j))]) hx hb dX9_carries_107 rfl hl (by decide) rfl (fun ls hl => ?_)
                  refine lv_iinc (v := nI (j + 1)) (lv' := [(4, .int (nI (j + 1))), (3, .int (((caA s j).2) + (if nI j < s (5 + 7 * j + 6) ∧ s (5 + 7 * frN s j + 6) = nI j then 1 else 0))), (2, .int (((caA s j).1) ||| ((1 : Int32) <<< ((s (5 + 7 * j + 6)) &&& 31)))), (5, .int (s (5 + 7 * j + 6))), (0, .ref (a 0)), (1, .int w9)]) hx hb dX9_carries_108 hl (k := 5) rfl (nI_1 j) (by decide) rfl (fun ls hl => ?_)
                  refine lv_goto (tgt := 23) hx hb dX9_carries_111 (by decide) ?_
                  have e9 : caA s (j + 1) = ((caA s j).1 ||| (1 <<< (s (5 + 7 * j + 6) &&& 31)), (caA s j).2 + (if nI j < s (5 + 7 * j + 6) ∧ s (5 + 7 * frN s j + 6) = nI j then 1 else 0)) := by
                    show caS s j (caA s j) = _
                    rw [caS, if_neg c_52, if_neg (Int32.not_le.mpr c_63)]
                  exact ih_J (j + 1)  (by omega) (by omega)  _ _ _ (hw) (by rw [e9]; exact lv_sub hl [4, 5, 2, 1, 0] rfl)
                · skip
                  refine lv_iconst (v := 1) hx hb dX9_carries_101 (by decide) ?_
                  refine lv_goto (tgt := 106) hx hb dX9_carries_102 (by decide) ?_
                  refine r_topi (x' := if nI j < s (5 + 7 * j + 6) ∧ s (5 + 7 * frN s j + 6) = nI j then 1 else 0) (by rw [if_pos ⟨Int32.not_le.mp c_81, c_98⟩]) ?_
                  refine lv_iadd hx hb dX9_carries_106 ?_
                  refine lv_istore_n (lv' := [(3, .int (((caA s j).2) + (if nI j < s (5 + 7 * j + 6) ∧ s (5 + 7 * frN s j + 6) = nI j then 1 else 0))), (2, .int (((caA s j).1) ||| ((1 : Int32) <<< ((s (5 + 7 * j + 6)) &&& 31)))), (5, .int (s (5 + 7 * j + 6))), (0, .ref (a 0)), (1, .int w9), (4, .int (nI j))]) hx hb dX9_carries_107 rfl hl (by decide) rfl (fun ls hl => ?_)
                  refine lv_iinc (v := nI (j + 1)) (lv' := [(4, .int (nI (j + 1))), (3, .int (((caA s j).2) + (if nI j < s (5 + 7 * j + 6) ∧ s (5 + 7 * frN s j + 6) = nI j then 1 else 0))), (2, .int (((caA s j).1) ||| ((1 : Int32) <<< ((s (5 + 7 * j + 6)) &&& 31)))), (5, .int (s (5 + 7 * j + 6))), (0, .ref (a 0)), (1, .int w9)]) hx hb dX9_carries_108 hl (k := 5) rfl (nI_1 j) (by decide) rfl (fun ls hl => ?_)
                  refine lv_goto (tgt := 23) hx hb dX9_carries_111 (by decide) ?_
                  have e9 : caA s (j + 1) = ((caA s j).1 ||| (1 <<< (s (5 + 7 * j + 6) &&& 31)), (caA s j).2 + (if nI j < s (5 + 7 * j + 6) ∧ s (5 + 7 * frN s j + 6) = nI j then 1 else 0)) := by
                    show caS s j (caA s j) = _
                    rw [caS, if_neg c_52, if_neg (Int32.not_le.mpr c_63)]
                  exact ih_J (j + 1)  (by omega) (by omega)  _ _ _ (hw) (by rw [e9]; exact lv_sub hl [4, 5, 2, 1, 0] rfl)
            · skip
              refine lv_goto (tgt := 108) hx hb dX9_carries_66 (by decide) ?_
              refine lv_iinc (v := nI (j + 1)) (lv' := [(4, .int (nI (j + 1))), (5, .int (s (5 + 7 * j + 6))), (0, .ref (a 0)), (1, .int w9), (2, .int ((caA s j).1)), (3, .int ((caA s j).2))]) hx hb dX9_carries_108 hl (k := 5) rfl (nI_1 j) (by decide) rfl (fun ls hl => ?_)
              refine lv_goto (tgt := 23) hx hb dX9_carries_111 (by decide) ?_
              have e9 : caA s (j + 1) = caA s j := by
                show caS s j (caA s j) = _
                rw [caS, if_neg c_52, if_pos (Int32.not_lt.mp c_63)]
              exact ih_J (j + 1)  (by omega) (by omega)  _ _ _ (hw) (by rw [e9]; exact lv_sub hl [2, 3, 4, 5, 0] rfl)
    refine lv_iload_n hx hb dX9_carries_0 rfl (lv_at hl 1 rfl) ?_
    refine lv_iconst (v := 0) hx hb dX9_carries_1 (by decide) ?_
    refine lv_iconst (v := 1) hx hb dX9_carries_2 (by decide) ?_
    refine r_det (r_S cx hw (kX9_isIn l hl9 g w9 0 1) (va_cwS 3 hts (lw_S q1240 q1241 q94 q1242) rfl rfl rfl (by decide +kernel) ⟨Nat.le_of_ble_eq_true rfl, Nat.le_of_ble_eq_true rfl⟩) [] rfl rfl rfl hl.1 rfl (Nat.le_of_ble_eq_true rfl) dX9_carries_3 ⟨Nat.le_of_ble_eq_true rfl, Nat.le_of_ble_eq_true rfl⟩) cx hw [] rfl rfl rfl (ws' := WM g a s m im wa L R rf nu hi lm rn pl sd) (rfl) (fun H locs hw => ?_)
    refine W.eq (g2 := F0 m9 6 ls [.int (bI (isInB w9 0 1))]) rfl ?_
    refine lv_if_ne (tgt := 16) hx hb dX9_carries_6 (by decide) (fun c_6 => ?_) (fun c_6 => absurd c_6 (by rw [hin_w9]; decide))
    refine lv_iconst (v := 0) hx hb dX9_carries_16 (by decide) ?_
    refine lv_istore_n (lv' := [(2, .int 0), (0, .ref (a 0)), (1, .int w9)]) hx hb dX9_carries_17 rfl hl (by decide) rfl (fun ls hl => ?_)
    refine lv_iconst (v := 0) hx hb dX9_carries_18 (by decide) ?_
    refine lv_istore_n (lv' := [(3, .int 0), (2, .int 0), (0, .ref (a 0)), (1, .int w9)]) hx hb dX9_carries_19 rfl hl (by decide) rfl (fun ls hl => ?_)
    refine lv_iconst (v := 0) hx hb dX9_carries_20 (by decide) ?_
    refine lv_istore (lv' := [(4, .int 0), (3, .int 0), (2, .int 0), (0, .ref (a 0)), (1, .int w9)]) hx hb dX9_carries_21 hl (by decide) rfl (fun ls hl => ?_)
    exact J (nN s + 1) 0  (by omega) (by omega)  _ _ _ (hw) (lv_sub hl [3, 4, 2, 1, 0] rfl)
  · skip
    have hin_w9 : isInB w9 0 1 = false := by simpa using hin_w9
    have hW : wBit w9 = -2 := by simp [wBit, hin_w9]
    have hne : ¬ wBit w9 = 0 := by rw [hW]; decide
    refine MC.of (by decide) (Nat.le_of_ble_eq_true rfl) ?_
    intro p9 e9 s9 m9 args9 below9 meth9 c9 A9 ls cx htab hw hl
    have hx := cx.1
    have hb := cx.2.1
    have hts := cx.2.2.2.2.1
    have hK := cx.2.2.2.2.2.2.2.1
    have hl : lv_has ls 6 [(0, .ref (a 0)), (1, .int w9)] := hl
    refine lv_iload_n hx hb dX9_carries_0 rfl (lv_at hl 1 rfl) ?_
    refine lv_iconst (v := 0) hx hb dX9_carries_1 (by decide) ?_
    refine lv_iconst (v := 1) hx hb dX9_carries_2 (by decide) ?_
    refine r_det (r_S cx hw (kX9_isIn l hl9 g w9 0 1) (va_cwS 3 hts (lw_S q1240 q1241 q94 q1242) rfl rfl rfl (by decide +kernel) ⟨Nat.le_of_ble_eq_true rfl, Nat.le_of_ble_eq_true rfl⟩) [] rfl rfl rfl hl.1 rfl (Nat.le_of_ble_eq_true rfl) dX9_carries_3 ⟨Nat.le_of_ble_eq_true rfl, Nat.le_of_ble_eq_true rfl⟩) cx hw [] rfl rfl rfl (ws' := WM g a s m im wa L R rf nu hi lm rn pl sd) (rfl) (fun H locs hw => ?_)
    refine W.eq (g2 := F0 m9 6 ls [.int (bI (isInB w9 0 1))]) rfl ?_
    refine lv_if_ne (tgt := 16) hx hb dX9_carries_6 (by decide) (fun c_6 => absurd c_6 (by rw [hin_w9]; decide)) (fun c_6 => ?_)
    refine lv_aload_n hx hb dX9_carries_9 rfl (lv_at hl 0 rfl) ?_
    refine lv_bipush (v := (-2)) hx hb dX9_carries_10 (by decide) ?_
    refine r_det (r_V cx hw (kX9_no l hl9 g a s m im wa L R rf nu hi lm rn pl sd (-2) (by unfold okC; decide)) (cwV 1 hts (lw_V q1213 q1215 qs65 q94 q1216) rfl rfl rfl (by decide +kernel) ⟨Nat.le_of_ble_eq_true rfl, Nat.le_of_ble_eq_true rfl⟩) (r_recv hK hw (k := 0) (ci := 8) rfl rfl) [0, 1, 2, 3, 4, 5, 6, 7, 8] rfl rfl rfl hl.1 rfl (Nat.le_of_ble_eq_true rfl) dX9_carries_12 ⟨Nat.le_of_ble_eq_true rfl, Nat.le_of_ble_eq_true rfl⟩) cx hw [0, 1, 2, 3, 4, 5, 6, 7, 8] rfl rfl rfl (ws' := WM g a s m im wa L R (rfU rf (-2)) nu hi lm rn pl sd) (rfl) (fun H locs hw => ?_)
    refine W.eq (g2 := F0 m9 15 ls [.int (-2)]) rfl ?_
    exact r_iret cx hw (⟨_, by rw [ans_n hne, hW], by rw [rfA_n hne, hW]⟩) (Nat.le_of_ble_eq_true rfl) (Nat.le_of_ble_eq_true rfl) dX9_carries_15

set_option maxHeartbeats 4000000 in
set_option maxRecDepth 100000 in
theorem kX9_send (l : Launch) (hl9 : l.stackTraces = false) (g : GG) (a : Nat → Nat) (s m im wa L R rf nu : Nat → Int32) (hi lm rn pl sd : Int32) (hI : InvM s) (n w9 : Int32) : MC l yX9_send cX9_send 8 (some .int) 5 111 0 0 g [.ref (a 0), .int n, .int w9] (WM g a s m im wa L R rf nu hi lm rn pl sd) (rtE (α := Nat → Int32) (some (.int (ans (wSnd n w9) (vSnd s (tN n) w9)))) (fun x9 => WM g a s x9 im wa L R (rfA (wSnd n w9) rf) nu hi lm rn pl sd)) (noX) := by
  by_cases hwr_n : wrF n 0 24 = 0
  · skip
    obtain ⟨q, hq, rfl⟩ := nI_rng (M := 24) (by decide) (Int32.le_trans (by decide) (wrF_0 hwr_n).1) (wrF_0 hwr_n).2
    have eq : tN (nI q) = q := tN_nI (by omega)
    by_cases hin_w9 : isInB w9 0 1 = true
    · skip
      have hW : wSnd (nI q) w9 = 0 := by simp [wSnd, hwr_n, hin_w9]
      refine MC.of (by decide) (Nat.le_of_ble_eq_true rfl) ?_
      intro p9 e9 s9 m9 args9 below9 meth9 c9 A9 ls cx htab hw hl
      have hx := cx.1
      have hb := cx.2.1
      have hts := cx.2.2.2.2.1
      have hK := cx.2.2.2.2.2.2.2.1
      have hl : lv_has ls 8 [(0, .ref (a 0)), (1, .int (nI q)), (2, .int w9)] := hl
      have hN := hI.1
      have J : ∀ (n9 j : Nat) (mm : Nat → Int32), j ≤ nN s → nN s < n9 + j → ∀ (H : Heap) (locs : List Loc) (ls : Array Slot), WS g A9 s9.heap (WM g a s mm im wa L R rf nu hi lm rn pl sd) H locs → lv_has ls 8 [(0, .ref (a 0)), (1, .int (nI q)), (2, .int w9), (4, .int ((snA s q j).1)), (5, .int ((snA s q j).2)), (6, .int (nI j))] → W p9 l e9 (rmC 5 111 0 0) s9 m9 args9 below9 meth9 c9 H locs 0 0 (vx_MQ below9 (PostA g A9 (rtE (α := Nat → Int32) (some (.int (ans (wSnd (nI q) w9) (vSnd s (tN (nI q)) w9)))) (fun x9 => WM g a s x9 im wa L R (rfA (wSnd (nI q) w9) rf) nu hi lm rn pl sd))) (PxA g A9 (pxR (noX))) args9 s9 0 0 A9) (F0 m9 44 ls []) := by
        intro n9
        induction n9 with
        | zero => intro j mm hj hk9; exact absurd hk9 (by omega)
        | succ n9 ih_J =>
          intro j mm hj hk9  H locs ls hw hl
          refine lv_iload hx hb dX9_send_44 (lv_at hl 5 rfl) ?_
          refine lv_aload_n hx hb dX9_send_46 rfl (lv_at hl 0 rfl) ?_
          refine r_get cx hw in_X9 0 (ci := 8) (T := TX9) (N := 13) rfl rfl 0 (by decide) q1169 (fun _ h9 => h9) rfl dX9_send_47 ?_
          refine lv_iconst (v := 0) hx hb dX9_send_50 (by decide) ?_
          refine r_iald cx hw 1 rfl 0 rfl (by omega) (Nat.le_of_ble_eq_true rfl) dX9_send_51 ?_
          refine r_topi (x' := nI (nN s)) (hI.2.1) ?_
          refine lv_icmp_ge (tgt := 171) hx hb dX9_send_52 (by decide) (fun c_52 => ?_) (fun c_52 => ?_)
          · skip
            have c_52 : (nN s) ≤ j := (nI_leI (a := (nN s)) (b := j) (by omega) (by omega)).mp c_52
            refine lv_iload hx hb dX9_send_171 (lv_at hl 3 rfl) ?_
            refine lv_if_lt (tgt := 180) hx hb dX9_send_173 (by decide) (fun c_173 => ?_) (fun c_173 => ?_)
            · skip
              refine lv_iload hx hb dX9_send_180 (lv_at hl 3 rfl) ?_
              refine lv_goto (tgt := 187) hx hb dX9_send_182 (by decide) ?_
              exact r_iret cx hw (⟨_, by rw [hW, ans_0, eq, vSnd, ← show j = nN s by omega, if_pos c_173], by rw [hW, rfA_0]⟩) (Nat.le_of_ble_eq_true rfl) (Nat.le_of_ble_eq_true rfl) dX9_send_187
            · skip
              refine lv_iload_n hx hb dX9_send_176 rfl (lv_at hl 2 rfl) ?_
              refine lv_if_ne (tgt := 185) hx hb dX9_send_177 (by decide) (fun c_177 => ?_) (fun c_177 => ?_)
              · skip
                refine lv_iload hx hb dX9_send_185 (lv_at hl 4 rfl) ?_
                exact r_iret cx hw (⟨_, by rw [hW, ans_0, eq, vSnd, ← show j = nN s by omega, if_neg c_173, if_neg c_177], by rw [hW, rfA_0]⟩) (Nat.le_of_ble_eq_true rfl) (Nat.le_of_ble_eq_true rfl) dX9_send_187
              · skip
                refine lv_iload hx hb dX9_send_180 (lv_at hl 3 rfl) ?_
                refine lv_goto (tgt := 187) hx hb dX9_send_182 (by decide) ?_
                exact r_iret cx hw (⟨_, by rw [hW, ans_0, eq, vSnd, ← show j = nN s by omega, if_neg c_173, if_pos c_177], by rw [hW, rfA_0]⟩) (Nat.le_of_ble_eq_true rfl) (Nat.le_of_ble_eq_true rfl) dX9_send_187
          · skip
            have c_52 : j < (nN s) := Nat.not_le.mp (fun h9 => c_52 ((nI_leI (a := (nN s)) (b := j) (by omega) (by omega)).mpr h9))
            refine lv_aload_n hx hb dX9_send_55 rfl (lv_at hl 0 rfl) ?_
            refine r_get cx hw in_X9 0 (ci := 8) (T := TX9) (N := 13) rfl rfl 0 (by decide) q1169 (fun _ h9 => h9) rfl dX9_send_56 ?_
            refine lv_aload_n hx hb dX9_send_59 rfl (lv_at hl 0 rfl) ?_
            refine r_get cx hw in_X9 0 (ci := 8) (T := TX9) (N := 13) rfl rfl 1 (by decide) q1170 (fun _ h9 => h9) rfl dX9_send_60 ?_
            refine r_det (r_S cx hw (kX9_copies l hl9 g (a 1) (a 2) s mm) (va_cwS 2 hts (lw_S q1243 q1244 q94 q1245) rfl rfl rfl (by decide +kernel) ⟨Nat.le_of_ble_eq_true rfl, Nat.le_of_ble_eq_true rfl⟩) [1, 2] rfl rfl rfl hl.1 rfl (Nat.le_of_ble_eq_true rfl) dX9_send_63 ⟨Nat.le_of_ble_eq_true rfl, Nat.le_of_ble_eq_true rfl⟩) cx hw [1, 2] rfl rfl rfl (ws' := WM g a s s im wa L R rf nu hi lm rn pl sd) (rfl) (fun H locs hw => ?_)
            refine W.eq (g2 := F0 m9 66 ls []) rfl ?_
            refine lv_aload_n hx hb dX9_send_66 rfl (lv_at hl 0 rfl) ?_
            refine r_get cx hw in_X9 0 (ci := 8) (T := TX9) (N := 13) rfl rfl 1 (by decide) q1170 (fun _ h9 => h9) rfl dX9_send_67 ?_
            refine lv_iconst (v := 2) hx hb dX9_send_70 (by decide) ?_
            refine lv_bipush (v := 99) hx hb dX9_send_71 (by decide) ?_
            refine lv_aload_n hx hb dX9_send_73 rfl (lv_at hl 0 rfl) ?_
            refine r_get cx hw in_X9 0 (ci := 8) (T := TX9) (N := 13) rfl rfl 1 (by decide) q1170 (fun _ h9 => h9) rfl dX9_send_74 ?_
            refine lv_iconst (v := 2) hx hb dX9_send_77 (by decide) ?_
            refine r_iald cx hw 2 rfl 2 rfl (by omega) (Nat.le_of_ble_eq_true rfl) dX9_send_78 ?_
            refine lv_aload_n hx hb dX9_send_79 rfl (lv_at hl 0 rfl) ?_
            refine r_get cx hw in_X9 0 (ci := 8) (T := TX9) (N := 13) rfl rfl 1 (by decide) q1170 (fun _ h9 => h9) rfl dX9_send_80 ?_
            refine lv_iload hx hb dX9_send_83 (lv_at hl 5 rfl) ?_
            refine lv_iconst (v := 3) hx hb dX9_send_85 (by decide) ?_
            refine r_det (r_S cx hw (kX9_of l hl9 g j 3) (va_cwS 2 hts (lw_S q1254 q1255 q94 q1256) rfl rfl rfl (by decide +kernel) ⟨Nat.le_of_ble_eq_true rfl, Nat.le_of_ble_eq_true rfl⟩) [] rfl rfl rfl hl.1 rfl (Nat.le_of_ble_eq_true rfl) dX9_send_86 ⟨Nat.le_of_ble_eq_true rfl, Nat.le_of_ble_eq_true rfl⟩) cx hw [] rfl rfl rfl (ws' := WM g a s s im wa L R rf nu hi lm rn pl sd) (rfl) (fun H locs hw => ?_)
            refine W.eq (g2 := F0 m9 89 ls [.int (nI (5 + 7 * j + 3)), .ref (a 2), .int (s 2), .int 99, .int 2, .ref (a 2)]) rfl ?_
            refine r_iald cx hw 2 rfl (5 + 7 * j + 3) rfl (by omega) (Nat.le_of_ble_eq_true rfl) dX9_send_89 ?_
            refine lv_iadd hx hb dX9_send_90 ?_
            refine r_det (r_S cx hw (kX9_least l hl9 g 99 ((s 2) + (s (5 + 7 * j + 3)))) (va_cwS 2 hts (lw_S q1267 q1268 q94 q1269) rfl rfl rfl (by decide +kernel) ⟨Nat.le_of_ble_eq_true rfl, Nat.le_of_ble_eq_true rfl⟩) [] rfl rfl rfl hl.1 rfl (Nat.le_of_ble_eq_true rfl) dX9_send_91 ⟨Nat.le_of_ble_eq_true rfl, Nat.le_of_ble_eq_true rfl⟩) cx hw [] rfl rfl rfl (ws' := WM g a s s im wa L R rf nu hi lm rn pl sd) (rfl) (fun H locs hw => ?_)
            refine W.eq (g2 := F0 m9 94 ls [.int (leI 99 ((s 2) + (s (5 + 7 * j + 3)))), .int 2, .ref (a 2)]) rfl ?_
            refine r_iast cx hw 2 rfl 2 rfl (by omega) (Nat.le_of_ble_eq_true rfl) dX9_send_94 (fun H locs hw => ?_)
            have hw : WS g A9 s9.heap (WM g a s (upd s 2 (leI 99 ((s 2) + (s (5 + 7 * j + 3))))) im wa L R rf nu hi lm rn pl sd) H locs := hw
            refine lv_aload_n hx hb dX9_send_95 rfl (lv_at hl 0 rfl) ?_
            refine r_get cx hw in_X9 0 (ci := 8) (T := TX9) (N := 13) rfl rfl 1 (by decide) q1170 (fun _ h9 => h9) rfl dX9_send_96 ?_
            refine lv_iload hx hb dX9_send_99 (lv_at hl 5 rfl) ?_
            refine lv_iconst (v := 3) hx hb dX9_send_101 (by decide) ?_
            refine r_det (r_S cx hw (kX9_of l hl9 g j 3) (va_cwS 2 hts (lw_S q1254 q1255 q94 q1256) rfl rfl rfl (by decide +kernel) ⟨Nat.le_of_ble_eq_true rfl, Nat.le_of_ble_eq_true rfl⟩) [] rfl rfl rfl hl.1 rfl (Nat.le_of_ble_eq_true rfl) dX9_send_102 ⟨Nat.le_of_ble_eq_true rfl, Nat.le_of_ble_eq_true rfl⟩) cx hw [] rfl rfl rfl (ws' := WM g a s (upd s 2 (leI 99 ((s 2) + (s (5 + 7 * j + 3))))) im wa L R rf nu hi lm rn pl sd) (rfl) (fun H locs hw => ?_)
            refine W.eq (g2 := F0 m9 105 ls [.int (nI (5 + 7 * j + 3)), .ref (a 2)]) rfl ?_
            refine lv_iconst (v := 0) hx hb dX9_send_105 (by decide) ?_
            refine r_iast cx hw 2 rfl (5 + 7 * j + 3) rfl (by omega) (Nat.le_of_ble_eq_true rfl) dX9_send_106 (fun H locs hw => ?_)
            have hw : WS g A9 s9.heap (WM g a s (upd (upd s 2 (leI 99 ((s 2) + (s (5 + 7 * j + 3))))) (5 + 7 * j + 3) 0) im wa L R rf nu hi lm rn pl sd) H locs := hw
            refine lv_aload_n hx hb dX9_send_107 rfl (lv_at hl 0 rfl) ?_
            refine r_get cx hw in_X9 0 (ci := 8) (T := TX9) (N := 13) rfl rfl 1 (by decide) q1170 (fun _ h9 => h9) rfl dX9_send_108 ?_
            refine lv_iload_n hx hb dX9_send_111 rfl (lv_at hl 1 rfl) ?_
            refine r_det (r_S cx hw (kX9_hoursOn l hl9 g (a 2) (upd (upd s 2 (leI 99 ((s 2) + (s (5 + 7 * j + 3))))) (5 + 7 * j + 3) 0) (InvM_upd (InvM_upd hI (by decide) (fun j => by omega)) (by omega) (fun j => by omega)) q (by omega)) (va_cwS 2 hts (lw_S q1261 q1262 q94 q1263) rfl rfl rfl (by decide +kernel) ⟨Nat.le_of_ble_eq_true rfl, Nat.le_of_ble_eq_true rfl⟩) [2] rfl rfl rfl hl.1 rfl (Nat.le_of_ble_eq_true rfl) dX9_send_112 ⟨Nat.le_of_ble_eq_true rfl, Nat.le_of_ble_eq_true rfl⟩) cx hw [2] rfl rfl rfl (ws' := WM g a s (hoursF (upd (upd s 2 (leI 99 ((s 2) + (s (5 + 7 * j + 3))))) (5 + 7 * j + 3) 0) q) im wa L R rf nu hi lm rn pl sd) (rfl) (fun H locs hw => ?_)
            refine W.eq (g2 := F0 m9 115 ls []) rfl ?_
            refine lv_iconst (v := 1) hx hb dX9_send_115 (by decide) ?_
            refine lv_aload_n hx hb dX9_send_116 rfl (lv_at hl 0 rfl) ?_
            refine r_get cx hw in_X9 0 (ci := 8) (T := TX9) (N := 13) rfl rfl 0 (by decide) q1169 (fun _ h9 => h9) rfl dX9_send_117 ?_
            refine lv_iconst (v := 0) hx hb dX9_send_120 (by decide) ?_
            refine r_iald cx hw 1 rfl 0 rfl (by omega) (Nat.le_of_ble_eq_true rfl) dX9_send_121 ?_
            refine lv_ishl hx hb dX9_send_122 ?_
            refine lv_iconst (v := 1) hx hb dX9_send_123 (by decide) ?_
            refine lv_isub hx hb dX9_send_124 ?_
            refine lv_iconst (v := 1) hx hb dX9_send_125 (by decide) ?_
            refine lv_iload hx hb dX9_send_126 (lv_at hl 5 rfl) ?_
            refine lv_ishl hx hb dX9_send_128 ?_
            refine lv_iconst (v := (-1)) hx hb dX9_send_129 (by decide) ?_
            refine lv_ixor hx hb dX9_send_130 ?_
            refine lv_iand hx hb dX9_send_131 ?_
            refine lv_aload_n hx hb dX9_send_132 rfl (lv_at hl 0 rfl) ?_
            refine r_get cx hw in_X9 0 (ci := 8) (T := TX9) (N := 13) rfl rfl 1 (by decide) q1170 (fun _ h9 => h9) rfl dX9_send_133 ?_
            refine r_det (r_S cx hw (kX9_dryOnes l hl9 g (a 2) (hoursF (upd (upd s 2 (leI 99 ((s 2) + (s (5 + 7 * j + 3))))) (5 + 7 * j + 3) 0) q) ((InvM_upd (InvM_upd hI (by decide) (fun j => by omega)) (by omega) (fun j => by omega)).hours q)) (va_cwS 1 hts (lw_S q1385 q1386 q94 q1387) rfl rfl rfl (by decide +kernel) ⟨Nat.le_of_ble_eq_true rfl, Nat.le_of_ble_eq_true rfl⟩) [2] rfl rfl rfl hl.1 rfl (Nat.le_of_ble_eq_true rfl) dX9_send_136 ⟨Nat.le_of_ble_eq_true rfl, Nat.le_of_ble_eq_true rfl⟩) cx hw [2] rfl rfl rfl (ws' := WM g a s (hoursF (upd (upd s 2 (leI 99 ((s 2) + (s (5 + 7 * j + 3))))) (5 + 7 * j + 3) 0) q) im wa L R rf nu hi lm rn pl sd) (rfl) (fun H locs hw => ?_)
            refine W.eq (g2 := F0 m9 139 ls [.int (dryF (hoursF (upd (upd s 2 (leI 99 ((s 2) + (s (5 + 7 * j + 3))))) (5 + 7 * j + 3) 0) q)), .int ((((1 : Int32) <<< ((s 0) &&& 31)) - 1) &&& (((1 : Int32) <<< ((nI j) &&& 31)) ^^^ (-1)))]) rfl ?_
            refine lv_iconst (v := (-1)) hx hb dX9_send_139 (by decide) ?_
            refine lv_ixor hx hb dX9_send_140 ?_
            refine lv_iand hx hb dX9_send_141 ?_
            refine r_det (r_S cx hw (kX9_bits l hl9 g (((((1 : Int32) <<< ((s 0) &&& 31)) - 1) &&& (((1 : Int32) <<< ((nI j) &&& 31)) ^^^ (-1))) &&& ((dryF (hoursF (upd (upd s 2 (leI 99 ((s 2) + (s (5 + 7 * j + 3))))) (5 + 7 * j + 3) 0) q)) ^^^ (-1)))) (va_cwS 1 hts (lw_S q1299 q1300 q94 q1301) rfl rfl rfl (by decide +kernel) ⟨Nat.le_of_ble_eq_true rfl, Nat.le_of_ble_eq_true rfl⟩) [] rfl rfl rfl hl.1 rfl (Nat.le_of_ble_eq_true rfl) dX9_send_142 ⟨Nat.le_of_ble_eq_true rfl, Nat.le_of_ble_eq_true rfl⟩) cx hw [] rfl rfl rfl (ws' := WM g a s (hoursF (upd (upd s 2 (leI 99 ((s 2) + (s (5 + 7 * j + 3))))) (5 + 7 * j + 3) 0) q) im wa L R rf nu hi lm rn pl sd) (rfl) (fun H locs hw => ?_)
            refine W.eq (g2 := F0 m9 145 ls [.int (bitsF (((((1 : Int32) <<< ((s 0) &&& 31)) - 1) &&& (((1 : Int32) <<< ((nI j) &&& 31)) ^^^ (-1))) &&& ((dryF (hoursF (upd (upd s 2 (leI 99 ((s 2) + (s (5 + 7 * j + 3))))) (5 + 7 * j + 3) 0) q)) ^^^ (-1))))]) rfl ?_
            refine r_topi (x' := snV s q j) (by rw [snV, snR]) ?_
            refine lv_istore (lv' := [(7, .int (snV s q j)), (0, .ref (a 0)), (1, .int (nI q)), (2, .int w9), (4, .int ((snA s q j).1)), (5, .int ((snA s q j).2)), (6, .int (nI j))]) hx hb dX9_send_145 hl (by decide) rfl (fun ls hl => ?_)
            refine lv_iload hx hb dX9_send_147 (lv_at hl 0 rfl) ?_
            refine lv_iload hx hb dX9_send_149 (lv_at hl 5 rfl) ?_
            refine lv_icmp_gt (tgt := 157) hx hb dX9_send_151 (by decide) (fun c_151 => ?_) (fun c_151 => ?_)
            · skip
              have c_151N := Int32.not_le.mpr c_151
              refine lv_iload hx hb dX9_send_157 (lv_at hl 6 rfl) ?_
              refine lv_istore (lv' := [(4, .int (nI j)), (7, .int (snV s q j)), (0, .ref (a 0)), (1, .int (nI q)), (2, .int w9), (5, .int ((snA s q j).2)), (6, .int (nI j))]) hx hb dX9_send_159 hl (by decide) rfl (fun ls hl => ?_)
              refine lv_iload hx hb dX9_send_161 (lv_at hl 1 rfl) ?_
              refine lv_istore (lv' := [(5, .int (snV s q j)), (4, .int (nI j)), (7, .int (snV s q j)), (0, .ref (a 0)), (1, .int (nI q)), (2, .int w9), (6, .int (nI j))]) hx hb dX9_send_163 hl (by decide) rfl (fun ls hl => ?_)
              refine lv_iinc (v := nI (j + 1)) (lv' := [(6, .int (nI (j + 1))), (5, .int (snV s q j)), (4, .int (nI j)), (7, .int (snV s q j)), (0, .ref (a 0)), (1, .int (nI q)), (2, .int w9)]) hx hb dX9_send_165 hl (k := 6) rfl (nI_1 j) (by decide) rfl (fun ls hl => ?_)
              refine lv_goto (tgt := 44) hx hb dX9_send_168 (by decide) ?_
              have e9 : snA s q (j + 1) = (nI j, snV s q j) := by
                show mxS (snV s q) j (snA s q j) = _
                rw [mxS, if_neg (Int32.not_le.mpr c_151)]
              exact ih_J (j + 1) (hoursF (upd (upd s 2 (leI 99 ((s 2) + (s (5 + 7 * j + 3))))) (5 + 7 * j + 3) 0) q) (by omega) (by omega)  _ _ _ (hw) (by rw [e9]; exact lv_sub hl [4, 5, 6, 2, 1, 0] rfl)
            · skip
              have c_151N := Int32.not_lt.mp c_151
              refine lv_goto (tgt := 165) hx hb dX9_send_154 (by decide) ?_
              refine lv_iinc (v := nI (j + 1)) (lv' := [(6, .int (nI (j + 1))), (7, .int (snV s q j)), (0, .ref (a 0)), (1, .int (nI q)), (2, .int w9), (4, .int ((snA s q j).1)), (5, .int ((snA s q j).2))]) hx hb dX9_send_165 hl (k := 6) rfl (nI_1 j) (by decide) rfl (fun ls hl => ?_)
              refine lv_goto (tgt := 44) hx hb dX9_send_168 (by decide) ?_
              have e9 : snA s q (j + 1) = snA s q j := by
                show mxS (snV s q) j (snA s q j) = _
                rw [mxS, if_pos (Int32.not_lt.mp c_151)]
              exact ih_J (j + 1) (hoursF (upd (upd s 2 (leI 99 ((s 2) + (s (5 + 7 * j + 3))))) (5 + 7 * j + 3) 0) q) (by omega) (by omega)  _ _ _ (hw) (by rw [e9]; exact lv_sub hl [2, 3, 4, 5, 6, 0] rfl)
      refine lv_iload_n hx hb dX9_send_0 rfl (lv_at hl 1 rfl) ?_
      refine lv_iconst (v := 0) hx hb dX9_send_1 (by decide) ?_
      refine lv_bipush (v := 24) hx hb dX9_send_2 (by decide) ?_
      refine r_det (r_S cx hw (kX9_wrongBy l hl9 g (nI q) 0 24) (va_cwS 3 hts (lw_S q1318 q1319 q94 q1320) rfl rfl rfl (by decide +kernel) ⟨Nat.le_of_ble_eq_true rfl, Nat.le_of_ble_eq_true rfl⟩) [] rfl rfl rfl hl.1 rfl (Nat.le_of_ble_eq_true rfl) dX9_send_4 ⟨Nat.le_of_ble_eq_true rfl, Nat.le_of_ble_eq_true rfl⟩) cx hw [] rfl rfl rfl (ws' := WM g a s m im wa L R rf nu hi lm rn pl sd) (rfl) (fun H locs hw => ?_)
      refine W.eq (g2 := F0 m9 7 ls [.int (wrF (nI q) 0 24)]) rfl ?_
      refine lv_istore_n (lv' := [(3, .int (wrF (nI q) 0 24)), (0, .ref (a 0)), (1, .int (nI q)), (2, .int w9)]) hx hb dX9_send_7 rfl hl (by decide) rfl (fun ls hl => ?_)
      refine lv_iload_n hx hb dX9_send_8 rfl (lv_at hl 0 rfl) ?_
      refine lv_if_ne (tgt := 24) hx hb dX9_send_9 (by decide) (fun c_9 => absurd hwr_n c_9) (fun c_9 => ?_)
      refine lv_iload_n hx hb dX9_send_12 rfl (lv_at hl 3 rfl) ?_
      refine lv_iconst (v := 0) hx hb dX9_send_13 (by decide) ?_
      refine lv_iconst (v := 1) hx hb dX9_send_14 (by decide) ?_
      refine r_det (r_S cx hw (kX9_isIn l hl9 g w9 0 1) (va_cwS 3 hts (lw_S q1240 q1241 q94 q1242) rfl rfl rfl (by decide +kernel) ⟨Nat.le_of_ble_eq_true rfl, Nat.le_of_ble_eq_true rfl⟩) [] rfl rfl rfl hl.1 rfl (Nat.le_of_ble_eq_true rfl) dX9_send_15 ⟨Nat.le_of_ble_eq_true rfl, Nat.le_of_ble_eq_true rfl⟩) cx hw [] rfl rfl rfl (ws' := WM g a s m im wa L R rf nu hi lm rn pl sd) (rfl) (fun H locs hw => ?_)
      refine W.eq (g2 := F0 m9 18 ls [.int (bI (isInB w9 0 1))]) rfl ?_
      refine lv_if_ne (tgt := 24) hx hb dX9_send_18 (by decide) (fun c_18 => ?_) (fun c_18 => absurd c_18 (by rw [hin_w9]; decide))
      refine lv_iload_n hx hb dX9_send_24 rfl (lv_at hl 0 rfl) ?_
      refine lv_if_eq (tgt := 34) hx hb dX9_send_25 (by decide) (fun c_25 => ?_) (fun c_25 => absurd hwr_n c_25)
      refine lv_bipush (v := (-9)) hx hb dX9_send_34 (by decide) ?_
      refine lv_istore (lv' := [(4, .int (-9)), (3, .int (wrF (nI q) 0 24)), (0, .ref (a 0)), (1, .int (nI q)), (2, .int w9)]) hx hb dX9_send_36 hl (by decide) rfl (fun ls hl => ?_)
      refine lv_iconst (v := (-1)) hx hb dX9_send_38 (by decide) ?_
      refine lv_istore (lv' := [(5, .int (-1)), (4, .int (-9)), (3, .int (wrF (nI q) 0 24)), (0, .ref (a 0)), (1, .int (nI q)), (2, .int w9)]) hx hb dX9_send_39 hl (by decide) rfl (fun ls hl => ?_)
      refine lv_iconst (v := 0) hx hb dX9_send_41 (by decide) ?_
      refine lv_istore (lv' := [(6, .int 0), (5, .int (-1)), (4, .int (-9)), (3, .int (wrF (nI q) 0 24)), (0, .ref (a 0)), (1, .int (nI q)), (2, .int w9)]) hx hb dX9_send_42 hl (by decide) rfl (fun ls hl => ?_)
      exact J (nN s + 1) 0 m (by omega) (by omega)  _ _ _ (hw) (lv_sub hl [4, 5, 6, 2, 1, 0] rfl)
    · skip
      have hin_w9 : isInB w9 0 1 = false := by simpa using hin_w9
      have hW : wSnd (nI q) w9 = -2 := by simp [wSnd, hwr_n, hin_w9]
      have hne : ¬ wSnd (nI q) w9 = 0 := by rw [hW]; decide
      refine MC.of (by decide) (Nat.le_of_ble_eq_true rfl) ?_
      intro p9 e9 s9 m9 args9 below9 meth9 c9 A9 ls cx htab hw hl
      have hx := cx.1
      have hb := cx.2.1
      have hts := cx.2.2.2.2.1
      have hK := cx.2.2.2.2.2.2.2.1
      have hl : lv_has ls 8 [(0, .ref (a 0)), (1, .int (nI q)), (2, .int w9)] := hl
      refine lv_iload_n hx hb dX9_send_0 rfl (lv_at hl 1 rfl) ?_
      refine lv_iconst (v := 0) hx hb dX9_send_1 (by decide) ?_
      refine lv_bipush (v := 24) hx hb dX9_send_2 (by decide) ?_
      refine r_det (r_S cx hw (kX9_wrongBy l hl9 g (nI q) 0 24) (va_cwS 3 hts (lw_S q1318 q1319 q94 q1320) rfl rfl rfl (by decide +kernel) ⟨Nat.le_of_ble_eq_true rfl, Nat.le_of_ble_eq_true rfl⟩) [] rfl rfl rfl hl.1 rfl (Nat.le_of_ble_eq_true rfl) dX9_send_4 ⟨Nat.le_of_ble_eq_true rfl, Nat.le_of_ble_eq_true rfl⟩) cx hw [] rfl rfl rfl (ws' := WM g a s m im wa L R rf nu hi lm rn pl sd) (rfl) (fun H locs hw => ?_)
      refine W.eq (g2 := F0 m9 7 ls [.int (wrF (nI q) 0 24)]) rfl ?_
      refine lv_istore_n (lv' := [(3, .int (wrF (nI q) 0 24)), (0, .ref (a 0)), (1, .int (nI q)), (2, .int w9)]) hx hb dX9_send_7 rfl hl (by decide) rfl (fun ls hl => ?_)
      refine lv_iload_n hx hb dX9_send_8 rfl (lv_at hl 0 rfl) ?_
      refine lv_if_ne (tgt := 24) hx hb dX9_send_9 (by decide) (fun c_9 => absurd hwr_n c_9) (fun c_9 => ?_)
      refine lv_iload_n hx hb dX9_send_12 rfl (lv_at hl 3 rfl) ?_
      refine lv_iconst (v := 0) hx hb dX9_send_13 (by decide) ?_
      refine lv_iconst (v := 1) hx hb dX9_send_14 (by decide) ?_
      refine r_det (r_S cx hw (kX9_isIn l hl9 g w9 0 1) (va_cwS 3 hts (lw_S q1240 q1241 q94 q1242) rfl rfl rfl (by decide +kernel) ⟨Nat.le_of_ble_eq_true rfl, Nat.le_of_ble_eq_true rfl⟩) [] rfl rfl rfl hl.1 rfl (Nat.le_of_ble_eq_true rfl) dX9_send_15 ⟨Nat.le_of_ble_eq_true rfl, Nat.le_of_ble_eq_true rfl⟩) cx hw [] rfl rfl rfl (ws' := WM g a s m im wa L R rf nu hi lm rn pl sd) (rfl) (fun H locs hw => ?_)
      refine W.eq (g2 := F0 m9 18 ls [.int (bI (isInB w9 0 1))]) rfl ?_
      refine lv_if_ne (tgt := 24) hx hb dX9_send_18 (by decide) (fun c_18 => absurd c_18 (by rw [hin_w9]; decide)) (fun c_18 => ?_)
      refine lv_bipush (v := (-2)) hx hb dX9_send_21 (by decide) ?_
      refine lv_istore_n (lv' := [(3, .int (-2)), (0, .ref (a 0)), (1, .int (nI q)), (2, .int w9)]) hx hb dX9_send_23 rfl hl (by decide) rfl (fun ls hl => ?_)
      refine lv_iload_n hx hb dX9_send_24 rfl (lv_at hl 0 rfl) ?_
      refine lv_if_eq (tgt := 34) hx hb dX9_send_25 (by decide) (fun c_25 => absurd c_25 (by decide)) (fun c_25 => ?_)
      refine lv_aload_n hx hb dX9_send_28 rfl (lv_at hl 1 rfl) ?_
      refine lv_iload_n hx hb dX9_send_29 rfl (lv_at hl 0 rfl) ?_
      refine r_det (r_V cx hw (kX9_no l hl9 g a s m im wa L R rf nu hi lm rn pl sd (-2) (by unfold okC; decide)) (cwV 1 hts (lw_V q1213 q1215 qs65 q94 q1216) rfl rfl rfl (by decide +kernel) ⟨Nat.le_of_ble_eq_true rfl, Nat.le_of_ble_eq_true rfl⟩) (r_recv hK hw (k := 0) (ci := 8) rfl rfl) [0, 1, 2, 3, 4, 5, 6, 7, 8] rfl rfl rfl hl.1 rfl (Nat.le_of_ble_eq_true rfl) dX9_send_30 ⟨Nat.le_of_ble_eq_true rfl, Nat.le_of_ble_eq_true rfl⟩) cx hw [0, 1, 2, 3, 4, 5, 6, 7, 8] rfl rfl rfl (ws' := WM g a s m im wa L R (rfU rf (-2)) nu hi lm rn pl sd) (rfl) (fun H locs hw => ?_)
      refine W.eq (g2 := F0 m9 33 ls [.int (-2)]) rfl ?_
      exact r_iret cx hw (⟨_, by rw [ans_n hne, hW], by rw [rfA_n hne, hW]⟩) (Nat.le_of_ble_eq_true rfl) (Nat.le_of_ble_eq_true rfl) dX9_send_33
  · skip
    have hW : wSnd n w9 = wrF n 0 24 := by simp [wSnd, hwr_n]
    have hne : ¬ wSnd n w9 = 0 := by rw [hW]; exact hwr_n
    refine MC.of (by decide) (Nat.le_of_ble_eq_true rfl) ?_
    intro p9 e9 s9 m9 args9 below9 meth9 c9 A9 ls cx htab hw hl
    have hx := cx.1
    have hb := cx.2.1
    have hts := cx.2.2.2.2.1
    have hK := cx.2.2.2.2.2.2.2.1
    have hl : lv_has ls 8 [(0, .ref (a 0)), (1, .int n), (2, .int w9)] := hl
    refine lv_iload_n hx hb dX9_send_0 rfl (lv_at hl 1 rfl) ?_
    refine lv_iconst (v := 0) hx hb dX9_send_1 (by decide) ?_
    refine lv_bipush (v := 24) hx hb dX9_send_2 (by decide) ?_
    refine r_det (r_S cx hw (kX9_wrongBy l hl9 g n 0 24) (va_cwS 3 hts (lw_S q1318 q1319 q94 q1320) rfl rfl rfl (by decide +kernel) ⟨Nat.le_of_ble_eq_true rfl, Nat.le_of_ble_eq_true rfl⟩) [] rfl rfl rfl hl.1 rfl (Nat.le_of_ble_eq_true rfl) dX9_send_4 ⟨Nat.le_of_ble_eq_true rfl, Nat.le_of_ble_eq_true rfl⟩) cx hw [] rfl rfl rfl (ws' := WM g a s m im wa L R rf nu hi lm rn pl sd) (rfl) (fun H locs hw => ?_)
    refine W.eq (g2 := F0 m9 7 ls [.int (wrF n 0 24)]) rfl ?_
    refine lv_istore_n (lv' := [(3, .int (wrF n 0 24)), (0, .ref (a 0)), (1, .int n), (2, .int w9)]) hx hb dX9_send_7 rfl hl (by decide) rfl (fun ls hl => ?_)
    refine lv_iload_n hx hb dX9_send_8 rfl (lv_at hl 0 rfl) ?_
    refine lv_if_ne (tgt := 24) hx hb dX9_send_9 (by decide) (fun c_9 => ?_) (fun c_9 => absurd c_9 hwr_n)
    refine lv_iload_n hx hb dX9_send_24 rfl (lv_at hl 0 rfl) ?_
    refine lv_if_eq (tgt := 34) hx hb dX9_send_25 (by decide) (fun c_25 => absurd c_25 hwr_n) (fun c_25 => ?_)
    refine lv_aload_n hx hb dX9_send_28 rfl (lv_at hl 1 rfl) ?_
    refine lv_iload_n hx hb dX9_send_29 rfl (lv_at hl 0 rfl) ?_
    refine r_det (r_V cx hw (kX9_no l hl9 g a s m im wa L R rf nu hi lm rn pl sd (wrF n 0 24) (wrF_ok hwr_n)) (cwV 1 hts (lw_V q1213 q1215 qs65 q94 q1216) rfl rfl rfl (by decide +kernel) ⟨Nat.le_of_ble_eq_true rfl, Nat.le_of_ble_eq_true rfl⟩) (r_recv hK hw (k := 0) (ci := 8) rfl rfl) [0, 1, 2, 3, 4, 5, 6, 7, 8] rfl rfl rfl hl.1 rfl (Nat.le_of_ble_eq_true rfl) dX9_send_30 ⟨Nat.le_of_ble_eq_true rfl, Nat.le_of_ble_eq_true rfl⟩) cx hw [0, 1, 2, 3, 4, 5, 6, 7, 8] rfl rfl rfl (ws' := WM g a s m im wa L R (rfU rf (wrF n 0 24)) nu hi lm rn pl sd) (rfl) (fun H locs hw => ?_)
    refine W.eq (g2 := F0 m9 33 ls [.int (wrF n 0 24)]) rfl ?_
    exact r_iret cx hw (⟨_, by rw [ans_n hne, hW], by rw [rfA_n hne, hW]⟩) (Nat.le_of_ble_eq_true rfl) (Nat.le_of_ble_eq_true rfl) dX9_send_33
