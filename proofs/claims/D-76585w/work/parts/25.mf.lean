/-! the reference: its methods, 4 -/
set_option maxRecDepth 100000
set_option maxHeartbeats 4000000 in
set_option maxRecDepth 100000 in
theorem kX9_hasBy (l : Launch) (hl9 : l.stackTraces = false) (g : GG) (a : Nat → Nat) (s m im wa L R rf nu : Nat → Int32) (hi lm rn pl sd : Int32) (hI : InvM s) (w9 a9 : Nat) (x : Int32) (b9 : Nat) (y : Int32) (n : Nat) (hw9 : w9 < 6) (ha9 : a9 < 6) (hb9 : b9 < 6) (hn : n < 1000) : MC l yX9_hasBy cX9_hasBy 7 (some .int) 5 111 0 0 g [.ref (a 0), .int (nI w9), .int (nI a9), .int x, .int (nI b9), .int y, .int (nI n)] (WM g a s m im wa L R rf nu hi lm rn pl sd) (rtE (α := Nat → Int32) (some (.int (twV s w9 a9 x b9 y n))) (fun x9 => WM g a s x9 im wa L R rf nu hi lm rn pl sd)) (noX) := by
  refine MC.of (by decide) (Nat.le_of_ble_eq_true rfl) ?_
  intro p9 e9 s9 m9 args9 below9 meth9 c9 A9 ls cx htab hw hl
  have hx := cx.1
  have hb := cx.2.1
  have hts := cx.2.2.2.2.1
  have hK := cx.2.2.2.2.2.2.2.1
  have hl : lv_has ls 7 [(0, .ref (a 0)), (1, .int (nI w9)), (2, .int (nI a9)), (3, .int x), (4, .int (nI b9)), (5, .int y), (6, .int (nI n))] := hl
  refine lv_aload_n hx hb dX9_hasBy_0 rfl (lv_at hl 0 rfl) ?_
  refine r_get cx hw in_X9 0 (ci := 8) (T := TX9) (N := 13) rfl rfl 0 (by decide) q1169 (fun _ h9 => h9) rfl dX9_hasBy_1 ?_
  refine lv_aload_n hx hb dX9_hasBy_4 rfl (lv_at hl 0 rfl) ?_
  refine r_get cx hw in_X9 0 (ci := 8) (T := TX9) (N := 13) rfl rfl 1 (by decide) q1170 (fun _ h9 => h9) rfl dX9_hasBy_5 ?_
  refine r_det (r_S cx hw (kX9_copies l hl9 g (a 1) (a 2) s m) (va_cwS 2 hts (lw_S q1243 q1244 q94 q1245) rfl rfl rfl (by decide +kernel) ⟨Nat.le_of_ble_eq_true rfl, Nat.le_of_ble_eq_true rfl⟩) [1, 2] rfl rfl rfl hl.1 rfl (Nat.le_of_ble_eq_true rfl) dX9_hasBy_8 ⟨Nat.le_of_ble_eq_true rfl, Nat.le_of_ble_eq_true rfl⟩) cx hw [1, 2] rfl rfl rfl (ws' := WM g a s s im wa L R rf nu hi lm rn pl sd) (rfl) (fun H locs hw => ?_)
  refine W.eq (g2 := F0 m9 11 ls []) rfl ?_
  refine lv_iload_n hx hb dX9_hasBy_11 rfl (lv_at hl 3 rfl) ?_
  refine lv_iconst (v := 1) hx hb dX9_hasBy_12 (by decide) ?_
  refine lv_icmp_ne (tgt := 27) hx hb dX9_hasBy_13 (by decide) (fun c_13 => ?_) (fun c_13 => ?_)
  · skip
    refine lv_iload hx hb dX9_hasBy_27 (lv_at hl 5 rfl) ?_
    refine lv_iconst (v := 1) hx hb dX9_hasBy_29 (by decide) ?_
    refine lv_icmp_ne (tgt := 45) hx hb dX9_hasBy_30 (by decide) (fun c_30 => ?_) (fun c_30 => ?_)
    · skip
      have hw : WS g A9 s9.heap (WM g a s (twR s a9 x b9 y) im wa L R rf nu hi lm rn pl sd) H locs := WS.to hw (by rw [twR, if_neg c_30, if_neg c_13])
      refine lv_aload_n hx hb dX9_hasBy_45 rfl (lv_at hl 0 rfl) ?_
      refine r_get cx hw in_X9 0 (ci := 8) (T := TX9) (N := 13) rfl rfl 1 (by decide) q1170 (fun _ h9 => h9) rfl dX9_hasBy_46 ?_
      refine lv_iload hx hb dX9_hasBy_49 (lv_at hl 6 rfl) ?_
      refine r_det (r_S cx hw (kX9_hoursOn l hl9 g (a 2) (twR s a9 x b9 y) (twR_I hI a9 x b9 y) n (by omega)) (va_cwS 2 hts (lw_S q1261 q1262 q94 q1263) rfl rfl rfl (by decide +kernel) ⟨Nat.le_of_ble_eq_true rfl, Nat.le_of_ble_eq_true rfl⟩) [2] rfl rfl rfl hl.1 rfl (Nat.le_of_ble_eq_true rfl) dX9_hasBy_51 ⟨Nat.le_of_ble_eq_true rfl, Nat.le_of_ble_eq_true rfl⟩) cx hw [2] rfl rfl rfl (ws' := WM g a s (hoursF (twR s a9 x b9 y) n) im wa L R rf nu hi lm rn pl sd) (rfl) (fun H locs hw => ?_)
      refine W.eq (g2 := F0 m9 54 ls []) rfl ?_
      refine lv_aload_n hx hb dX9_hasBy_54 rfl (lv_at hl 0 rfl) ?_
      refine r_get cx hw in_X9 0 (ci := 8) (T := TX9) (N := 13) rfl rfl 1 (by decide) q1170 (fun _ h9 => h9) rfl dX9_hasBy_55 ?_
      refine lv_iload_n hx hb dX9_hasBy_58 rfl (lv_at hl 1 rfl) ?_
      refine lv_iconst (v := 3) hx hb dX9_hasBy_59 (by decide) ?_
      refine r_det (r_S cx hw (kX9_of l hl9 g w9 3) (va_cwS 2 hts (lw_S q1254 q1255 q94 q1256) rfl rfl rfl (by decide +kernel) ⟨Nat.le_of_ble_eq_true rfl, Nat.le_of_ble_eq_true rfl⟩) [] rfl rfl rfl hl.1 rfl (Nat.le_of_ble_eq_true rfl) dX9_hasBy_60 ⟨Nat.le_of_ble_eq_true rfl, Nat.le_of_ble_eq_true rfl⟩) cx hw [] rfl rfl rfl (ws' := WM g a s (hoursF (twR s a9 x b9 y) n) im wa L R rf nu hi lm rn pl sd) (rfl) (fun H locs hw => ?_)
      refine W.eq (g2 := F0 m9 63 ls [.int (nI (5 + 7 * w9 + 3)), .ref (a 2)]) rfl ?_
      refine r_iald cx hw 2 rfl (5 + 7 * w9 + 3) rfl (by omega) (Nat.le_of_ble_eq_true rfl) dX9_hasBy_63 ?_
      refine lv_iconst (v := 2) hx hb dX9_hasBy_64 (by decide) ?_
      refine lv_iload_n hx hb dX9_hasBy_65 rfl (lv_at hl 1 rfl) ?_
      refine lv_iload_n hx hb dX9_hasBy_66 rfl (lv_at hl 2 rfl) ?_
      refine lv_icmp_ne (tgt := 74) hx hb dX9_hasBy_67 (by decide) (fun c_67 => ?_) (fun c_67 => ?_)
      · skip
        have c_67 : ¬ w9 = a9 := fun h9 => c_67 ((nI_eq (a := w9) (b := a9) (by omega) (by omega)).mpr h9)
        refine lv_iload hx hb dX9_hasBy_74 (lv_at hl 5 rfl) ?_
        refine r_topi (x' := if w9 = a9 then x else y) (by rw [if_neg c_67]) ?_
        refine lv_imul hx hb dX9_hasBy_76 ?_
        refine lv_iadd hx hb dX9_hasBy_77 ?_
        exact r_iret cx hw (⟨_, rfl, rfl⟩) (Nat.le_of_ble_eq_true rfl) (Nat.le_of_ble_eq_true rfl) dX9_hasBy_78
      · skip
        have c_67 : w9 = a9 := (nI_eq (a := w9) (b := a9) (by omega) (by omega)).mp c_67
        refine lv_iload_n hx hb dX9_hasBy_70 rfl (lv_at hl 3 rfl) ?_
        refine lv_goto (tgt := 76) hx hb dX9_hasBy_71 (by decide) ?_
        refine r_topi (x' := if w9 = a9 then x else y) (by rw [if_pos c_67]) ?_
        refine lv_imul hx hb dX9_hasBy_76 ?_
        refine lv_iadd hx hb dX9_hasBy_77 ?_
        exact r_iret cx hw (⟨_, rfl, rfl⟩) (Nat.le_of_ble_eq_true rfl) (Nat.le_of_ble_eq_true rfl) dX9_hasBy_78
    · skip
      refine lv_aload_n hx hb dX9_hasBy_33 rfl (lv_at hl 0 rfl) ?_
      refine r_get cx hw in_X9 0 (ci := 8) (T := TX9) (N := 13) rfl rfl 1 (by decide) q1170 (fun _ h9 => h9) rfl dX9_hasBy_34 ?_
      refine lv_iload hx hb dX9_hasBy_37 (lv_at hl 4 rfl) ?_
      refine lv_iconst (v := 4) hx hb dX9_hasBy_39 (by decide) ?_
      refine r_det (r_S cx hw (kX9_of l hl9 g b9 4) (va_cwS 2 hts (lw_S q1254 q1255 q94 q1256) rfl rfl rfl (by decide +kernel) ⟨Nat.le_of_ble_eq_true rfl, Nat.le_of_ble_eq_true rfl⟩) [] rfl rfl rfl hl.1 rfl (Nat.le_of_ble_eq_true rfl) dX9_hasBy_40 ⟨Nat.le_of_ble_eq_true rfl, Nat.le_of_ble_eq_true rfl⟩) cx hw [] rfl rfl rfl (ws' := WM g a s s im wa L R rf nu hi lm rn pl sd) (rfl) (fun H locs hw => ?_)
      refine W.eq (g2 := F0 m9 43 ls [.int (nI (5 + 7 * b9 + 4)), .ref (a 2)]) rfl ?_
      refine lv_iconst (v := 1) hx hb dX9_hasBy_43 (by decide) ?_
      refine r_iast cx hw 2 rfl (5 + 7 * b9 + 4) rfl (by omega) (Nat.le_of_ble_eq_true rfl) dX9_hasBy_44 (fun H locs hw => ?_)
      have hw : WS g A9 s9.heap (WM g a s (upd s (5 + 7 * b9 + 4) 1) im wa L R rf nu hi lm rn pl sd) H locs := hw
      have hw : WS g A9 s9.heap (WM g a s (twR s a9 x b9 y) im wa L R rf nu hi lm rn pl sd) H locs := WS.to hw (by rw [twR, if_pos c_30, if_neg c_13])
      refine lv_aload_n hx hb dX9_hasBy_45 rfl (lv_at hl 0 rfl) ?_
      refine r_get cx hw in_X9 0 (ci := 8) (T := TX9) (N := 13) rfl rfl 1 (by decide) q1170 (fun _ h9 => h9) rfl dX9_hasBy_46 ?_
      refine lv_iload hx hb dX9_hasBy_49 (lv_at hl 6 rfl) ?_
      refine r_det (r_S cx hw (kX9_hoursOn l hl9 g (a 2) (twR s a9 x b9 y) (twR_I hI a9 x b9 y) n (by omega)) (va_cwS 2 hts (lw_S q1261 q1262 q94 q1263) rfl rfl rfl (by decide +kernel) ⟨Nat.le_of_ble_eq_true rfl, Nat.le_of_ble_eq_true rfl⟩) [2] rfl rfl rfl hl.1 rfl (Nat.le_of_ble_eq_true rfl) dX9_hasBy_51 ⟨Nat.le_of_ble_eq_true rfl, Nat.le_of_ble_eq_true rfl⟩) cx hw [2] rfl rfl rfl (ws' := WM g a s (hoursF (twR s a9 x b9 y) n) im wa L R rf nu hi lm rn pl sd) (rfl) (fun H locs hw => ?_)
      refine W.eq (g2 := F0 m9 54 ls []) rfl ?_
      refine lv_aload_n hx hb dX9_hasBy_54 rfl (lv_at hl 0 rfl) ?_
      refine r_get cx hw in_X9 0 (ci := 8) (T := TX9) (N := 13) rfl rfl 1 (by decide) q1170 (fun _ h9 => h9) rfl dX9_hasBy_55 ?_
      refine lv_iload_n hx hb dX9_hasBy_58 rfl (lv_at hl 1 rfl) ?_
      refine lv_iconst (v := 3) hx hb dX9_hasBy_59 (by decide) ?_
      refine r_det (r_S cx hw (kX9_of l hl9 g w9 3) (va_cwS 2 hts (lw_S q1254 q1255 q94 q1256) rfl rfl rfl (by decide +kernel) ⟨Nat.le_of_ble_eq_true rfl, Nat.le_of_ble_eq_true rfl⟩) [] rfl rfl rfl hl.1 rfl (Nat.le_of_ble_eq_true rfl) dX9_hasBy_60 ⟨Nat.le_of_ble_eq_true rfl, Nat.le_of_ble_eq_true rfl⟩) cx hw [] rfl rfl rfl (ws' := WM g a s (hoursF (twR s a9 x b9 y) n) im wa L R rf nu hi lm rn pl sd) (rfl) (fun H locs hw => ?_)
      refine W.eq (g2 := F0 m9 63 ls [.int (nI (5 + 7 * w9 + 3)), .ref (a 2)]) rfl ?_
      refine r_iald cx hw 2 rfl (5 + 7 * w9 + 3) rfl (by omega) (Nat.le_of_ble_eq_true rfl) dX9_hasBy_63 ?_
      refine lv_iconst (v := 2) hx hb dX9_hasBy_64 (by decide) ?_
      refine lv_iload_n hx hb dX9_hasBy_65 rfl (lv_at hl 1 rfl) ?_
      refine lv_iload_n hx hb dX9_hasBy_66 rfl (lv_at hl 2 rfl) ?_
      refine lv_icmp_ne (tgt := 74) hx hb dX9_hasBy_67 (by decide) (fun c_67 => ?_) (fun c_67 => ?_)
      · skip
        have c_67 : ¬ w9 = a9 := fun h9 => c_67 ((nI_eq (a := w9) (b := a9) (by omega) (by omega)).mpr h9)
        refine lv_iload hx hb dX9_hasBy_74 (lv_at hl 5 rfl) ?_
        refine r_topi (x' := if w9 = a9 then x else y) (by rw [if_neg c_67]) ?_
        refine lv_imul hx hb dX9_hasBy_76 ?_
        refine lv_iadd hx hb dX9_hasBy_77 ?_
        exact r_iret cx hw (⟨_, rfl, rfl⟩) (Nat.le_of_ble_eq_true rfl) (Nat.le_of_ble_eq_true rfl) dX9_hasBy_78
      · skip
        have c_67 : w9 = a9 := (nI_eq (a := w9) (b := a9) (by omega) (by omega)).mp c_67
        refine lv_iload_n hx hb dX9_hasBy_70 rfl (lv_at hl 3 rfl) ?_
        refine lv_goto (tgt := 76) hx hb dX9_hasBy_71 (by decide) ?_
        refine r_topi (x' := if w9 = a9 then x else y) (by rw [if_pos c_67]) ?_
        refine lv_imul hx hb dX9_hasBy_76 ?_
        refine lv_iadd hx hb dX9_hasBy_77 ?_
        exact r_iret cx hw (⟨_, rfl, rfl⟩) (Nat.le_of_ble_eq_true rfl) (Nat.le_of_ble_eq_true rfl) dX9_hasBy_78
  · skip
    refine lv_aload_n hx hb dX9_hasBy_16 rfl (lv_at hl 0 rfl) ?_
    refine r_get cx hw in_X9 0 (ci := 8) (T := TX9) (N := 13) rfl rfl 1 (by decide) q1170 (fun _ h9 => h9) rfl dX9_hasBy_17 ?_
    refine lv_iload_n hx hb dX9_hasBy_20 rfl (lv_at hl 2 rfl) ?_
    refine lv_iconst (v := 4) hx hb dX9_hasBy_21 (by decide) ?_
    refine r_det (r_S cx hw (kX9_of l hl9 g a9 4) (va_cwS 2 hts (lw_S q1254 q1255 q94 q1256) rfl rfl rfl (by decide +kernel) ⟨Nat.le_of_ble_eq_true rfl, Nat.le_of_ble_eq_true rfl⟩) [] rfl rfl rfl hl.1 rfl (Nat.le_of_ble_eq_true rfl) dX9_hasBy_22 ⟨Nat.le_of_ble_eq_true rfl, Nat.le_of_ble_eq_true rfl⟩) cx hw [] rfl rfl rfl (ws' := WM g a s s im wa L R rf nu hi lm rn pl sd) (rfl) (fun H locs hw => ?_)
    refine W.eq (g2 := F0 m9 25 ls [.int (nI (5 + 7 * a9 + 4)), .ref (a 2)]) rfl ?_
    refine lv_iconst (v := 1) hx hb dX9_hasBy_25 (by decide) ?_
    refine r_iast cx hw 2 rfl (5 + 7 * a9 + 4) rfl (by omega) (Nat.le_of_ble_eq_true rfl) dX9_hasBy_26 (fun H locs hw => ?_)
    have hw : WS g A9 s9.heap (WM g a s (upd s (5 + 7 * a9 + 4) 1) im wa L R rf nu hi lm rn pl sd) H locs := hw
    refine lv_iload hx hb dX9_hasBy_27 (lv_at hl 5 rfl) ?_
    refine lv_iconst (v := 1) hx hb dX9_hasBy_29 (by decide) ?_
    refine lv_icmp_ne (tgt := 45) hx hb dX9_hasBy_30 (by decide) (fun c_30 => ?_) (fun c_30 => ?_)
    · skip
      have hw : WS g A9 s9.heap (WM g a s (twR s a9 x b9 y) im wa L R rf nu hi lm rn pl sd) H locs := WS.to hw (by rw [twR, if_neg c_30, if_pos c_13])
      refine lv_aload_n hx hb dX9_hasBy_45 rfl (lv_at hl 0 rfl) ?_
      refine r_get cx hw in_X9 0 (ci := 8) (T := TX9) (N := 13) rfl rfl 1 (by decide) q1170 (fun _ h9 => h9) rfl dX9_hasBy_46 ?_
      refine lv_iload hx hb dX9_hasBy_49 (lv_at hl 6 rfl) ?_
      refine r_det (r_S cx hw (kX9_hoursOn l hl9 g (a 2) (twR s a9 x b9 y) (twR_I hI a9 x b9 y) n (by omega)) (va_cwS 2 hts (lw_S q1261 q1262 q94 q1263) rfl rfl rfl (by decide +kernel) ⟨Nat.le_of_ble_eq_true rfl, Nat.le_of_ble_eq_true rfl⟩) [2] rfl rfl rfl hl.1 rfl (Nat.le_of_ble_eq_true rfl) dX9_hasBy_51 ⟨Nat.le_of_ble_eq_true rfl, Nat.le_of_ble_eq_true rfl⟩) cx hw [2] rfl rfl rfl (ws' := WM g a s (hoursF (twR s a9 x b9 y) n) im wa L R rf nu hi lm rn pl sd) (rfl) (fun H locs hw => ?_)
      refine W.eq (g2 := F0 m9 54 ls []) rfl ?_
      refine lv_aload_n hx hb dX9_hasBy_54 rfl (lv_at hl 0 rfl) ?_
      refine r_get cx hw in_X9 0 (ci := 8) (T := TX9) (N := 13) rfl rfl 1 (by decide) q1170 (fun _ h9 => h9) rfl dX9_hasBy_55 ?_
      refine lv_iload_n hx hb dX9_hasBy_58 rfl (lv_at hl 1 rfl) ?_
      refine lv_iconst (v := 3) hx hb dX9_hasBy_59 (by decide) ?_
      refine r_det (r_S cx hw (kX9_of l hl9 g w9 3) (va_cwS 2 hts (lw_S q1254 q1255 q94 q1256) rfl rfl rfl (by decide +kernel) ⟨Nat.le_of_ble_eq_true rfl, Nat.le_of_ble_eq_true rfl⟩) [] rfl rfl rfl hl.1 rfl (Nat.le_of_ble_eq_true rfl) dX9_hasBy_60 ⟨Nat.le_of_ble_eq_true rfl, Nat.le_of_ble_eq_true rfl⟩) cx hw [] rfl rfl rfl (ws' := WM g a s (hoursF (twR s a9 x b9 y) n) im wa L R rf nu hi lm rn pl sd) (rfl) (fun H locs hw => ?_)
      refine W.eq (g2 := F0 m9 63 ls [.int (nI (5 + 7 * w9 + 3)), .ref (a 2)]) rfl ?_
      refine r_iald cx hw 2 rfl (5 + 7 * w9 + 3) rfl (by omega) (Nat.le_of_ble_eq_true rfl) dX9_hasBy_63 ?_
      refine lv_iconst (v := 2) hx hb dX9_hasBy_64 (by decide) ?_
      refine lv_iload_n hx hb dX9_hasBy_65 rfl (lv_at hl 1 rfl) ?_
      refine lv_iload_n hx hb dX9_hasBy_66 rfl (lv_at hl 2 rfl) ?_
      refine lv_icmp_ne (tgt := 74) hx hb dX9_hasBy_67 (by decide) (fun c_67 => ?_) (fun c_67 => ?_)
      · skip
        have c_67 : ¬ w9 = a9 := fun h9 => c_67 ((nI_eq (a := w9) (b := a9) (by omega) (by omega)).mpr h9)
        refine lv_iload hx hb dX9_hasBy_74 (lv_at hl 5 rfl) ?_
        refine r_topi (x' := if w9 = a9 then x else y) (by rw [if_neg c_67]) ?_
        refine lv_imul hx hb dX9_hasBy_76 ?_
        refine lv_iadd hx hb dX9_hasBy_77 ?_
        exact r_iret cx hw (⟨_, rfl, rfl⟩) (Nat.le_of_ble_eq_true rfl) (Nat.le_of_ble_eq_true rfl) dX9_hasBy_78
      · skip
        have c_67 : w9 = a9 := (nI_eq (a := w9) (b := a9) (by omega) (by omega)).mp c_67
        refine lv_iload_n hx hb dX9_hasBy_70 rfl (lv_at hl 3 rfl) ?_
        refine lv_goto (tgt := 76) hx hb dX9_hasBy_71 (by decide) ?_
        refine r_topi (x' := if w9 = a9 then x else y) (by rw [if_pos c_67]) ?_
        refine lv_imul hx hb dX9_hasBy_76 ?_
        refine lv_iadd hx hb dX9_hasBy_77 ?_
        exact r_iret cx hw (⟨_, rfl, rfl⟩) (Nat.le_of_ble_eq_true rfl) (Nat.le_of_ble_eq_true rfl) dX9_hasBy_78
    · skip
      refine lv_aload_n hx hb dX9_hasBy_33 rfl (lv_at hl 0 rfl) ?_
      refine r_get cx hw in_X9 0 (ci := 8) (T := TX9) (N := 13) rfl rfl 1 (by decide) q1170 (fun _ h9 => h9) rfl dX9_hasBy_34 ?_
      refine lv_iload hx hb dX9_hasBy_37 (lv_at hl 4 rfl) ?_
      refine lv_iconst (v := 4) hx hb dX9_hasBy_39 (by decide) ?_
      refine r_det (r_S cx hw (kX9_of l hl9 g b9 4) (va_cwS 2 hts (lw_S q1254 q1255 q94 q1256) rfl rfl rfl (by decide +kernel) ⟨Nat.le_of_ble_eq_true rfl, Nat.le_of_ble_eq_true rfl⟩) [] rfl rfl rfl hl.1 rfl (Nat.le_of_ble_eq_true rfl) dX9_hasBy_40 ⟨Nat.le_of_ble_eq_true rfl, Nat.le_of_ble_eq_true rfl⟩) cx hw [] rfl rfl rfl (ws' := WM g a s (upd s (5 + 7 * a9 + 4) 1) im wa L R rf nu hi lm rn pl sd) (rfl) (fun H locs hw => ?_)
      refine W.eq (g2 := F0 m9 43 ls [.int (nI (5 + 7 * b9 + 4)), .ref (a 2)]) rfl ?_
      refine lv_iconst (v := 1) hx hb dX9_hasBy_43 (by decide) ?_
      refine r_iast cx hw 2 rfl (5 + 7 * b9 + 4) rfl (by omega) (Nat.le_of_ble_eq_true rfl) dX9_hasBy_44 (fun H locs hw => ?_)
      have hw : WS g A9 s9.heap (WM g a s (upd (upd s (5 + 7 * a9 + 4) 1) (5 + 7 * b9 + 4) 1) im wa L R rf nu hi lm rn pl sd) H locs := hw
      have hw : WS g A9 s9.heap (WM g a s (twR s a9 x b9 y) im wa L R rf nu hi lm rn pl sd) H locs := WS.to hw (by rw [twR, if_pos c_30, if_pos c_13])
      refine lv_aload_n hx hb dX9_hasBy_45 rfl (lv_at hl 0 rfl) ?_
      refine r_get cx hw in_X9 0 (ci := 8) (T := TX9) (N := 13) rfl rfl 1 (by decide) q1170 (fun _ h9 => h9) rfl dX9_hasBy_46 ?_
      refine lv_iload hx hb dX9_hasBy_49 (lv_at hl 6 rfl) ?_
      refine r_det (r_S cx hw (kX9_hoursOn l hl9 g (a 2) (twR s a9 x b9 y) (twR_I hI a9 x b9 y) n (by omega)) (va_cwS 2 hts (lw_S q1261 q1262 q94 q1263) rfl rfl rfl (by decide +kernel) ⟨Nat.le_of_ble_eq_true rfl, Nat.le_of_ble_eq_true rfl⟩) [2] rfl rfl rfl hl.1 rfl (Nat.le_of_ble_eq_true rfl) dX9_hasBy_51 ⟨Nat.le_of_ble_eq_true rfl, Nat.le_of_ble_eq_true rfl⟩) cx hw [2] rfl rfl rfl (ws' := WM g a s (hoursF (twR s a9 x b9 y) n) im wa L R rf nu hi lm rn pl sd) (rfl) (fun H locs hw => ?_)
      refine W.eq (g2 := F0 m9 54 ls []) rfl ?_
      refine lv_aload_n hx hb dX9_hasBy_54 rfl (lv_at hl 0 rfl) ?_
      refine r_get cx hw in_X9 0 (ci := 8) (T := TX9) (N := 13) rfl rfl 1 (by decide) q1170 (fun _ h9 => h9) rfl dX9_hasBy_55 ?_
      refine lv_iload_n hx hb dX9_hasBy_58 rfl (lv_at hl 1 rfl) ?_
      refine lv_iconst (v := 3) hx hb dX9_hasBy_59 (by decide) ?_
      refine r_det (r_S cx hw (kX9_of l hl9 g w9 3) (va_cwS 2 hts (lw_S q1254 q1255 q94 q1256) rfl rfl rfl (by decide +kernel) ⟨Nat.le_of_ble_eq_true rfl, Nat.le_of_ble_eq_true rfl⟩) [] rfl rfl rfl hl.1 rfl (Nat.le_of_ble_eq_true rfl) dX9_hasBy_60 ⟨Nat.le_of_ble_eq_true rfl, Nat.le_of_ble_eq_true rfl⟩) cx hw [] rfl rfl rfl (ws' := WM g a s (hoursF (twR s a9 x b9 y) n) im wa L R rf nu hi lm rn pl sd) (rfl) (fun H locs hw => ?_)
      refine W.eq (g2 := F0 m9 63 ls [.int (nI (5 + 7 * w9 + 3)), .ref (a 2)]) rfl ?_
      refine r_iald cx hw 2 rfl (5 + 7 * w9 + 3) rfl (by omega) (Nat.le_of_ble_eq_true rfl) dX9_hasBy_63 ?_
      refine lv_iconst (v := 2) hx hb dX9_hasBy_64 (by decide) ?_
      refine lv_iload_n hx hb dX9_hasBy_65 rfl (lv_at hl 1 rfl) ?_
      refine lv_iload_n hx hb dX9_hasBy_66 rfl (lv_at hl 2 rfl) ?_
      refine lv_icmp_ne (tgt := 74) hx hb dX9_hasBy_67 (by decide) (fun c_67 => ?_) (fun c_67 => ?_)
      · skip
        have c_67 : ¬ w9 = a9 := fun h9 => c_67 ((nI_eq (a := w9) (b := a9) (by omega) (by omega)).mpr h9)
        refine lv_iload hx hb dX9_hasBy_74 (lv_at hl 5 rfl) ?_
        refine r_topi (x' := if w9 = a9 then x else y) (by rw [if_neg c_67]) ?_
        refine lv_imul hx hb dX9_hasBy_76 ?_
        refine lv_iadd hx hb dX9_hasBy_77 ?_
        exact r_iret cx hw (⟨_, rfl, rfl⟩) (Nat.le_of_ble_eq_true rfl) (Nat.le_of_ble_eq_true rfl) dX9_hasBy_78
      · skip
        have c_67 : w9 = a9 := (nI_eq (a := w9) (b := a9) (by omega) (by omega)).mp c_67
        refine lv_iload_n hx hb dX9_hasBy_70 rfl (lv_at hl 3 rfl) ?_
        refine lv_goto (tgt := 76) hx hb dX9_hasBy_71 (by decide) ?_
        refine r_topi (x' := if w9 = a9 then x else y) (by rw [if_pos c_67]) ?_
        refine lv_imul hx hb dX9_hasBy_76 ?_
        refine lv_iadd hx hb dX9_hasBy_77 ?_
        exact r_iret cx hw (⟨_, rfl, rfl⟩) (Nat.le_of_ble_eq_true rfl) (Nat.le_of_ble_eq_true rfl) dX9_hasBy_78

set_option maxHeartbeats 4000000 in
set_option maxRecDepth 100000 in
theorem kX9_two (l : Launch) (hl9 : l.stackTraces = false) (g : GG) (a : Nat → Nat) (s m im wa L R rf nu : Nat → Int32) (hi lm rn pl sd : Int32) (hI : InvM s) (a9 b9 n : Int32) : MC l yX9_two cX9_two 8 (some .int) 6 137 0 0 g [.ref (a 0), .int a9, .int b9, .int n] (WM g a s m im wa L R rf nu hi lm rn pl sd) (rtE (α := Nat → Int32) (some (.int (ans (wTwo s a9 b9 n) (vTwo s a9 b9 n)))) (fun x9 => WM g a s x9 im wa L R (rfA (wTwo s a9 b9 n) rf) nu hi lm rn pl sd)) (noX) := by
  by_cases hps_a9 : psB s a9 = true
  · skip
    obtain ⟨ka, hka, rfl⟩ := psB_rng hI hps_a9
    have hN := hI.1
    have eka : tN (nI ka) = ka := tN_nI (by omega)
    by_cases hps_b9 : psB s b9 = true
    · skip
      obtain ⟨kb, hkb, rfl⟩ := psB_rng hI hps_b9
      have hN := hI.1
      have ekb : tN (nI kb) = kb := tN_nI (by omega)
      by_cases hab : ka = kb
      · skip
        have hW : wTwo s (nI ka) (nI kb) n = -1 := by simp [wTwo, hps_a9, hps_b9, hab]
        have hne : ¬ wTwo s (nI ka) (nI kb) n = 0 := by rw [hW]; decide
        refine MC.of (by decide) (Nat.le_of_ble_eq_true rfl) ?_
        intro p9 e9 s9 m9 args9 below9 meth9 c9 A9 ls cx htab hw hl
        have hx := cx.1
        have hb := cx.2.1
        have hts := cx.2.2.2.2.1
        have hK := cx.2.2.2.2.2.2.2.1
        have hl : lv_has ls 8 [(0, .ref (a 0)), (1, .int (nI ka)), (2, .int (nI kb)), (3, .int n)] := hl
        refine lv_aload_n hx hb dX9_two_0 rfl (lv_at hl 0 rfl) ?_
        refine lv_iload_n hx hb dX9_two_1 rfl (lv_at hl 1 rfl) ?_
        refine r_det (r_V cx hw (kX9_isPerson l hl9 g a s m im wa L R rf nu hi lm rn pl sd (nI ka)) (cwV 1 hts (lw_V q1257 q1259 qs72 q94 q1260) rfl rfl rfl (by decide +kernel) ⟨Nat.le_of_ble_eq_true rfl, Nat.le_of_ble_eq_true rfl⟩) (r_recv hK hw (k := 0) (ci := 8) rfl rfl) [0, 1, 2, 3, 4, 5, 6, 7, 8] rfl rfl rfl hl.1 rfl (Nat.le_of_ble_eq_true rfl) dX9_two_2 ⟨Nat.le_of_ble_eq_true rfl, Nat.le_of_ble_eq_true rfl⟩) cx hw [0, 1, 2, 3, 4, 5, 6, 7, 8] rfl rfl rfl (ws' := WM g a s m im wa L R rf nu hi lm rn pl sd) (rfl) (fun H locs hw => ?_)
        refine W.eq (g2 := F0 m9 5 ls [.int (bI (psB s (nI ka)))]) rfl ?_
        refine lv_if_eq (tgt := 31) hx hb dX9_two_5 (by decide) (fun c_5 => absurd c_5 (by rw [hps_a9]; decide)) (fun c_5 => ?_)
        refine lv_aload_n hx hb dX9_two_8 rfl (lv_at hl 0 rfl) ?_
        refine lv_iload_n hx hb dX9_two_9 rfl (lv_at hl 2 rfl) ?_
        refine r_det (r_V cx hw (kX9_isPerson l hl9 g a s m im wa L R rf nu hi lm rn pl sd (nI kb)) (cwV 1 hts (lw_V q1257 q1259 qs72 q94 q1260) rfl rfl rfl (by decide +kernel) ⟨Nat.le_of_ble_eq_true rfl, Nat.le_of_ble_eq_true rfl⟩) (r_recv hK hw (k := 0) (ci := 8) rfl rfl) [0, 1, 2, 3, 4, 5, 6, 7, 8] rfl rfl rfl hl.1 rfl (Nat.le_of_ble_eq_true rfl) dX9_two_10 ⟨Nat.le_of_ble_eq_true rfl, Nat.le_of_ble_eq_true rfl⟩) cx hw [0, 1, 2, 3, 4, 5, 6, 7, 8] rfl rfl rfl (ws' := WM g a s m im wa L R rf nu hi lm rn pl sd) (rfl) (fun H locs hw => ?_)
        refine W.eq (g2 := F0 m9 13 ls [.int (bI (psB s (nI kb)))]) rfl ?_
        refine lv_if_eq (tgt := 31) hx hb dX9_two_13 (by decide) (fun c_13 => absurd c_13 (by rw [hps_b9]; decide)) (fun c_13 => ?_)
        refine lv_iload_n hx hb dX9_two_16 rfl (lv_at hl 1 rfl) ?_
        refine lv_iload_n hx hb dX9_two_17 rfl (lv_at hl 2 rfl) ?_
        refine lv_icmp_eq (tgt := 31) hx hb dX9_two_18 (by decide) (fun c_9 => ?_) (fun c_9 => absurd (by rw [hab]) c_9)
        refine lv_iconst (v := (-1)) hx hb dX9_two_31 (by decide) ?_
        refine lv_istore (lv' := [(4, .int (-1)), (0, .ref (a 0)), (1, .int (nI ka)), (2, .int (nI kb)), (3, .int n)]) hx hb dX9_two_32 hl (by decide) rfl (fun ls hl => ?_)
        refine lv_iload hx hb dX9_two_34 (lv_at hl 0 rfl) ?_
        refine lv_if_eq (tgt := 46) hx hb dX9_two_36 (by decide) (fun c_36 => absurd c_36 (by decide)) (fun c_36 => ?_)
        refine lv_aload_n hx hb dX9_two_39 rfl (lv_at hl 1 rfl) ?_
        refine lv_iload hx hb dX9_two_40 (lv_at hl 0 rfl) ?_
        refine r_det (r_V cx hw (kX9_no l hl9 g a s m im wa L R rf nu hi lm rn pl sd (-1) (by unfold okC; decide)) (cwV 1 hts (lw_V q1213 q1215 qs65 q94 q1216) rfl rfl rfl (by decide +kernel) ⟨Nat.le_of_ble_eq_true rfl, Nat.le_of_ble_eq_true rfl⟩) (r_recv hK hw (k := 0) (ci := 8) rfl rfl) [0, 1, 2, 3, 4, 5, 6, 7, 8] rfl rfl rfl hl.1 rfl (Nat.le_of_ble_eq_true rfl) dX9_two_42 ⟨Nat.le_of_ble_eq_true rfl, Nat.le_of_ble_eq_true rfl⟩) cx hw [0, 1, 2, 3, 4, 5, 6, 7, 8] rfl rfl rfl (ws' := WM g a s m im wa L R (rfU rf (-1)) nu hi lm rn pl sd) (rfl) (fun H locs hw => ?_)
        refine W.eq (g2 := F0 m9 45 ls [.int (-1)]) rfl ?_
        exact r_iret cx hw (⟨_, by rw [ans_n hne, hW], by rw [rfA_n hne, hW]⟩) (Nat.le_of_ble_eq_true rfl) (Nat.le_of_ble_eq_true rfl) dX9_two_45
      · skip
        have hab9 : ¬ nI ka = nI kb := fun h9 => hab ((nI_eq (by omega) (by omega)).mp h9)
        by_cases hwr_n : wrF n 0 24 = 0
        · skip
          obtain ⟨q, hq, rfl⟩ := nI_rng (M := 24) (by decide) (Int32.le_trans (by decide) (wrF_0 hwr_n).1) (wrF_0 hwr_n).2
          have eq : tN (nI q) = q := tN_nI (by omega)
          have hW : wTwo s (nI ka) (nI kb) (nI q) = 0 := by simp [wTwo, hps_a9, hps_b9, hab9, hwr_n]
          refine MC.of (by decide) (Nat.le_of_ble_eq_true rfl) ?_
          intro p9 e9 s9 m9 args9 below9 meth9 c9 A9 ls cx htab hw hl
          have hx := cx.1
          have hb := cx.2.1
          have hts := cx.2.2.2.2.1
          have hK := cx.2.2.2.2.2.2.2.1
          have hl : lv_has ls 8 [(0, .ref (a 0)), (1, .int (nI ka)), (2, .int (nI kb)), (3, .int (nI q))] := hl
          have J : ∀ (n9 j : Nat) (mm : Nat → Int32), j ≤ 4 → 4 < n9 + j → twF (twB s ka kb q) 4 0 = twF (twB s ka kb q) (4 - j) j → ∀ (H : Heap) (locs : List Loc) (ls : Array Slot), WS g A9 s9.heap (WM g a s mm im wa L R rf nu hi lm rn pl sd) H locs → lv_has ls 8 [(0, .ref (a 0)), (1, .int (nI ka)), (2, .int (nI kb)), (3, .int (nI q)), (5, .int (nI j))] → W p9 l e9 (rmC 6 137 0 0) s9 m9 args9 below9 meth9 c9 H locs 0 0 (vx_MQ below9 (PostA g A9 (rtE (α := Nat → Int32) (some (.int (ans (wTwo s (nI ka) (nI kb) (nI q)) (vTwo s (nI ka) (nI kb) (nI q))))) (fun x9 => WM g a s x9 im wa L R (rfA (wTwo s (nI ka) (nI kb) (nI q)) rf) nu hi lm rn pl sd))) (PxA g A9 (pxR (noX))) args9 s9 0 0 A9) (F0 m9 49 ls []) := by
            intro n9
            induction n9 with
            | zero => intro j mm hj hk9; exact absurd hk9 (by omega)
            | succ n9 ih_J =>
              intro j mm hj hk9 hv H locs ls hw hl
              refine lv_iload hx hb dX9_two_49 (lv_at hl 4 rfl) ?_
              refine lv_iconst (v := 4) hx hb dX9_two_51 (by decide) ?_
              refine lv_icmp_ge (tgt := 140) hx hb dX9_two_52 (by decide) (fun c_52 => ?_) (fun c_52 => ?_)
              · skip
                have c_52 : 4 ≤ j := (nI_leI (a := 4) (b := j) (by omega) (by omega)).mp c_52
                refine lv_bipush (v := (-9)) hx hb dX9_two_140 (by decide) ?_
                exact r_iret cx hw (⟨_, by rw [hW, ans_0, vTwo, eka, ekb, eq, hv, twF_e (by omega)], by rw [hW, rfA_0]⟩) (Nat.le_of_ble_eq_true rfl) (Nat.le_of_ble_eq_true rfl) dX9_two_142
              · skip
                have c_52 : j < 4 := Nat.not_le.mp (fun h9 => c_52 ((nI_leI (a := 4) (b := j) (by omega) (by omega)).mpr h9))
                refine lv_iload hx hb dX9_two_55 (lv_at hl 4 rfl) ?_
                refine lv_iconst (v := 2) hx hb dX9_two_57 (by decide) ?_
                refine lv_idiv hx hb dX9_two_58 (by decide) ?_
                refine r_topi (x' := nI (j / 2)) (pk_div (by omega) (by decide) (by decide)) ?_
                refine lv_istore (lv' := [(6, .int (nI (j / 2))), (0, .ref (a 0)), (1, .int (nI ka)), (2, .int (nI kb)), (3, .int (nI q)), (5, .int (nI j))]) hx hb dX9_two_59 hl (by decide) rfl (fun ls hl => ?_)
                refine lv_iload hx hb dX9_two_61 (lv_at hl 5 rfl) ?_
                refine lv_iconst (v := 2) hx hb dX9_two_63 (by decide) ?_
                refine lv_irem hx hb dX9_two_64 (by decide) ?_
                refine r_topi (x' := irem (nI j) 2) (rfl) ?_
                refine r_topi (x' := nI (j % 2)) (pk_rem (by omega) (by decide) (by decide)) ?_
                refine lv_istore (lv' := [(7, .int (nI (j % 2))), (6, .int (nI (j / 2))), (0, .ref (a 0)), (1, .int (nI ka)), (2, .int (nI kb)), (3, .int (nI q)), (5, .int (nI j))]) hx hb dX9_two_65 hl (by decide) rfl (fun ls hl => ?_)
                refine lv_aload_n hx hb dX9_two_67 rfl (lv_at hl 2 rfl) ?_
                refine lv_iload_n hx hb dX9_two_68 rfl (lv_at hl 3 rfl) ?_
                refine lv_iload_n hx hb dX9_two_69 rfl (lv_at hl 3 rfl) ?_
                refine lv_iconst (v := 1) hx hb dX9_two_70 (by decide) ?_
                refine lv_iload hx hb dX9_two_71 (lv_at hl 1 rfl) ?_
                refine lv_isub hx hb dX9_two_73 ?_
                refine lv_iload_n hx hb dX9_two_74 rfl (lv_at hl 4 rfl) ?_
                refine lv_iload hx hb dX9_two_75 (lv_at hl 0 rfl) ?_
                refine lv_iload_n hx hb dX9_two_77 rfl (lv_at hl 5 rfl) ?_
                refine r_detE (α := Nat → Int32) (r_V cx hw (kX9_hasBy l hl9 g a s mm im wa L R rf nu hi lm rn pl sd hI ka ka (1 - (nI (j / 2))) kb (nI (j % 2)) q (by omega) (by omega) (by omega) (by omega)) (cwV 6 hts (lw_V q1447 q1449 qs81 q94 q1450) rfl rfl rfl (by decide +kernel) ⟨Nat.le_of_ble_eq_true rfl, Nat.le_of_ble_eq_true rfl⟩) (r_recv hK hw (k := 0) (ci := 8) rfl rfl) [0, 1, 2, 3, 4, 5, 6, 7, 8] rfl rfl rfl hl.1 rfl (Nat.le_of_ble_eq_true rfl) dX9_two_78 ⟨Nat.le_of_ble_eq_true rfl, Nat.le_of_ble_eq_true rfl⟩) cx hw [0, 1, 2, 3, 4, 5, 6, 7, 8] rfl rfl (fun _ => rfl) (ws' := fun x9 => WM g a s x9 im wa L R rf nu hi lm rn pl sd) (fun _ => rfl) (fun mm_3 H locs hw => ?_)
                refine W.eq (g2 := F0 m9 81 ls [.int (twV s ka ka (1 - (nI (j / 2))) kb (nI (j % 2)) q)]) rfl ?_
                have hw : WS g A9 s9.heap (WM g a s mm_3 im wa L R rf nu hi lm rn pl sd) H locs := hw
                refine lv_aload_n hx hb dX9_two_81 rfl (lv_at hl 2 rfl) ?_
                refine lv_iload_n hx hb dX9_two_82 rfl (lv_at hl 3 rfl) ?_
                refine lv_iload_n hx hb dX9_two_83 rfl (lv_at hl 3 rfl) ?_
                refine lv_iload hx hb dX9_two_84 (lv_at hl 1 rfl) ?_
                refine lv_iload_n hx hb dX9_two_86 rfl (lv_at hl 4 rfl) ?_
                refine lv_iload hx hb dX9_two_87 (lv_at hl 0 rfl) ?_
                refine lv_iload_n hx hb dX9_two_89 rfl (lv_at hl 5 rfl) ?_
                refine r_detE (α := Nat → Int32) (r_V cx hw (kX9_hasBy l hl9 g a s mm_3 im wa L R rf nu hi lm rn pl sd hI ka ka (nI (j / 2)) kb (nI (j % 2)) q (by omega) (by omega) (by omega) (by omega)) (cwV 6 hts (lw_V q1447 q1449 qs81 q94 q1450) rfl rfl rfl (by decide +kernel) ⟨Nat.le_of_ble_eq_true rfl, Nat.le_of_ble_eq_true rfl⟩) (r_recv hK hw (k := 0) (ci := 8) rfl rfl) [0, 1, 2, 3, 4, 5, 6, 7, 8] rfl rfl rfl hl.1 rfl (Nat.le_of_ble_eq_true rfl) dX9_two_90 ⟨Nat.le_of_ble_eq_true rfl, Nat.le_of_ble_eq_true rfl⟩) cx hw [0, 1, 2, 3, 4, 5, 6, 7, 8] rfl rfl (fun _ => rfl) (ws' := fun x9 => WM g a s x9 im wa L R rf nu hi lm rn pl sd) (fun _ => rfl) (fun mm_4 H locs hw => ?_)
                refine W.eq (g2 := F0 m9 93 ls [.int (twV s ka ka (nI (j / 2)) kb (nI (j % 2)) q), .int (twV s ka ka (1 - (nI (j / 2))) kb (nI (j % 2)) q)]) rfl ?_
                have hw : WS g A9 s9.heap (WM g a s mm_4 im wa L R rf nu hi lm rn pl sd) H locs := hw
                refine lv_icmp_gt (tgt := 134) hx hb dX9_two_93 (by decide) (fun c_93 => ?_) (fun c_93 => ?_)
                · skip
                  refine lv_iinc (v := nI (j + 1)) (lv' := [(5, .int (nI (j + 1))), (7, .int (nI (j % 2))), (6, .int (nI (j / 2))), (0, .ref (a 0)), (1, .int (nI ka)), (2, .int (nI kb)), (3, .int (nI q))]) hx hb dX9_two_134 hl (k := 6) rfl (nI_1 j) (by decide) rfl (fun ls hl => ?_)
                  refine lv_goto (tgt := 49) hx hb dX9_two_137 (by decide) ?_
                  exact ih_J (j + 1) mm_4 (by omega) (by omega) (hv.trans (twF_f (by omega) (by rw [twB, decide_eq_false (Int32.not_le.mpr c_93), Bool.false_and]))) _ _ _ (hw) (lv_sub hl [3, 4, 5, 6, 0] rfl)
                · skip
                  refine lv_aload_n hx hb dX9_two_96 rfl (lv_at hl 2 rfl) ?_
                  refine lv_iload_n hx hb dX9_two_97 rfl (lv_at hl 4 rfl) ?_
                  refine lv_iload_n hx hb dX9_two_98 rfl (lv_at hl 3 rfl) ?_
                  refine lv_iload hx hb dX9_two_99 (lv_at hl 1 rfl) ?_
                  refine lv_iload_n hx hb dX9_two_101 rfl (lv_at hl 4 rfl) ?_
                  refine lv_iconst (v := 1) hx hb dX9_two_102 (by decide) ?_
                  refine lv_iload hx hb dX9_two_103 (lv_at hl 0 rfl) ?_
                  refine lv_isub hx hb dX9_two_105 ?_
                  refine lv_iload_n hx hb dX9_two_106 rfl (lv_at hl 5 rfl) ?_
                  refine r_detE (α := Nat → Int32) (r_V cx hw (kX9_hasBy l hl9 g a s mm_4 im wa L R rf nu hi lm rn pl sd hI kb ka (nI (j / 2)) kb (1 - (nI (j % 2))) q (by omega) (by omega) (by omega) (by omega)) (cwV 6 hts (lw_V q1447 q1449 qs81 q94 q1450) rfl rfl rfl (by decide +kernel) ⟨Nat.le_of_ble_eq_true rfl, Nat.le_of_ble_eq_true rfl⟩) (r_recv hK hw (k := 0) (ci := 8) rfl rfl) [0, 1, 2, 3, 4, 5, 6, 7, 8] rfl rfl rfl hl.1 rfl (Nat.le_of_ble_eq_true rfl) dX9_two_107 ⟨Nat.le_of_ble_eq_true rfl, Nat.le_of_ble_eq_true rfl⟩) cx hw [0, 1, 2, 3, 4, 5, 6, 7, 8] rfl rfl (fun _ => rfl) (ws' := fun x9 => WM g a s x9 im wa L R rf nu hi lm rn pl sd) (fun _ => rfl) (fun mm_6 H locs hw => ?_)
                  refine W.eq (g2 := F0 m9 110 ls [.int (twV s kb ka (nI (j / 2)) kb (1 - (nI (j % 2))) q)]) rfl ?_
                  have hw : WS g A9 s9.heap (WM g a s mm_6 im wa L R rf nu hi lm rn pl sd) H locs := hw
                  refine lv_aload_n hx hb dX9_two_110 rfl (lv_at hl 2 rfl) ?_
                  refine lv_iload_n hx hb dX9_two_111 rfl (lv_at hl 4 rfl) ?_
                  refine lv_iload_n hx hb dX9_two_112 rfl (lv_at hl 3 rfl) ?_
                  refine lv_iload hx hb dX9_two_113 (lv_at hl 1 rfl) ?_
                  refine lv_iload_n hx hb dX9_two_115 rfl (lv_at hl 4 rfl) ?_
                  refine lv_iload hx hb dX9_two_116 (lv_at hl 0 rfl) ?_
                  refine lv_iload_n hx hb dX9_two_118 rfl (lv_at hl 5 rfl) ?_
                  refine r_detE (α := Nat → Int32) (r_V cx hw (kX9_hasBy l hl9 g a s mm_6 im wa L R rf nu hi lm rn pl sd hI kb ka (nI (j / 2)) kb (nI (j % 2)) q (by omega) (by omega) (by omega) (by omega)) (cwV 6 hts (lw_V q1447 q1449 qs81 q94 q1450) rfl rfl rfl (by decide +kernel) ⟨Nat.le_of_ble_eq_true rfl, Nat.le_of_ble_eq_true rfl⟩) (r_recv hK hw (k := 0) (ci := 8) rfl rfl) [0, 1, 2, 3, 4, 5, 6, 7, 8] rfl rfl rfl hl.1 rfl (Nat.le_of_ble_eq_true rfl) dX9_two_119 ⟨Nat.le_of_ble_eq_true rfl, Nat.le_of_ble_eq_true rfl⟩) cx hw [0, 1, 2, 3, 4, 5, 6, 7, 8] rfl rfl (fun _ => rfl) (ws' := fun x9 => WM g a s x9 im wa L R rf nu hi lm rn pl sd) (fun _ => rfl) (fun mm_7 H locs hw => ?_)
                  refine W.eq (g2 := F0 m9 122 ls [.int (twV s kb ka (nI (j / 2)) kb (nI (j % 2)) q), .int (twV s kb ka (nI (j / 2)) kb (1 - (nI (j % 2))) q)]) rfl ?_
                  have hw : WS g A9 s9.heap (WM g a s mm_7 im wa L R rf nu hi lm rn pl sd) H locs := hw
                  refine lv_icmp_gt (tgt := 134) hx hb dX9_two_122 (by decide) (fun c_122 => ?_) (fun c_122 => ?_)
                  · skip
                    refine lv_iinc (v := nI (j + 1)) (lv' := [(5, .int (nI (j + 1))), (7, .int (nI (j % 2))), (6, .int (nI (j / 2))), (0, .ref (a 0)), (1, .int (nI ka)), (2, .int (nI kb)), (3, .int (nI q))]) hx hb dX9_two_134 hl (k := 6) rfl (nI_1 j) (by decide) rfl (fun ls hl => ?_)
                    refine lv_goto (tgt := 49) hx hb dX9_two_137 (by decide) ?_
                    exact ih_J (j + 1) mm_7 (by omega) (by omega) (hv.trans (twF_f (by omega) (by rw [twB, decide_eq_false (Int32.not_le.mpr c_122), Bool.and_false]))) _ _ _ (hw) (lv_sub hl [3, 4, 5, 6, 0] rfl)
                  · skip
                    refine lv_bipush (v := 10) hx hb dX9_two_125 (by decide) ?_
                    refine lv_iload hx hb dX9_two_127 (lv_at hl 1 rfl) ?_
                    refine lv_imul hx hb dX9_two_129 ?_
                    refine r_topi (x' := nI (10 * (j / 2))) (pk_mul 10 (j / 2)) ?_
                    refine lv_iload hx hb dX9_two_130 (lv_at hl 0 rfl) ?_
                    refine lv_iadd hx hb dX9_two_132 ?_
                    refine r_topi (x' := nI (10 * (j / 2) + (j % 2))) (nI_add (10 * (j / 2)) (j % 2)) ?_
                    exact r_iret cx hw (⟨_, by rw [hW, ans_0, vTwo, eka, ekb, eq, hv, twF_t (by omega) (by rw [twB, decide_eq_true (Int32.not_lt.mp c_93), decide_eq_true (Int32.not_lt.mp c_122)]; rfl)], by rw [hW, rfA_0]⟩) (Nat.le_of_ble_eq_true rfl) (Nat.le_of_ble_eq_true rfl) dX9_two_133
          refine lv_aload_n hx hb dX9_two_0 rfl (lv_at hl 0 rfl) ?_
          refine lv_iload_n hx hb dX9_two_1 rfl (lv_at hl 1 rfl) ?_
          refine r_det (r_V cx hw (kX9_isPerson l hl9 g a s m im wa L R rf nu hi lm rn pl sd (nI ka)) (cwV 1 hts (lw_V q1257 q1259 qs72 q94 q1260) rfl rfl rfl (by decide +kernel) ⟨Nat.le_of_ble_eq_true rfl, Nat.le_of_ble_eq_true rfl⟩) (r_recv hK hw (k := 0) (ci := 8) rfl rfl) [0, 1, 2, 3, 4, 5, 6, 7, 8] rfl rfl rfl hl.1 rfl (Nat.le_of_ble_eq_true rfl) dX9_two_2 ⟨Nat.le_of_ble_eq_true rfl, Nat.le_of_ble_eq_true rfl⟩) cx hw [0, 1, 2, 3, 4, 5, 6, 7, 8] rfl rfl rfl (ws' := WM g a s m im wa L R rf nu hi lm rn pl sd) (rfl) (fun H locs hw => ?_)
          refine W.eq (g2 := F0 m9 5 ls [.int (bI (psB s (nI ka)))]) rfl ?_
          refine lv_if_eq (tgt := 31) hx hb dX9_two_5 (by decide) (fun c_5 => absurd c_5 (by rw [hps_a9]; decide)) (fun c_5 => ?_)
          refine lv_aload_n hx hb dX9_two_8 rfl (lv_at hl 0 rfl) ?_
          refine lv_iload_n hx hb dX9_two_9 rfl (lv_at hl 2 rfl) ?_
          refine r_det (r_V cx hw (kX9_isPerson l hl9 g a s m im wa L R rf nu hi lm rn pl sd (nI kb)) (cwV 1 hts (lw_V q1257 q1259 qs72 q94 q1260) rfl rfl rfl (by decide +kernel) ⟨Nat.le_of_ble_eq_true rfl, Nat.le_of_ble_eq_true rfl⟩) (r_recv hK hw (k := 0) (ci := 8) rfl rfl) [0, 1, 2, 3, 4, 5, 6, 7, 8] rfl rfl rfl hl.1 rfl (Nat.le_of_ble_eq_true rfl) dX9_two_10 ⟨Nat.le_of_ble_eq_true rfl, Nat.le_of_ble_eq_true rfl⟩) cx hw [0, 1, 2, 3, 4, 5, 6, 7, 8] rfl rfl rfl (ws' := WM g a s m im wa L R rf nu hi lm rn pl sd) (rfl) (fun H locs hw => ?_)
          refine W.eq (g2 := F0 m9 13 ls [.int (bI (psB s (nI kb)))]) rfl ?_
          refine lv_if_eq (tgt := 31) hx hb dX9_two_13 (by decide) (fun c_13 => absurd c_13 (by rw [hps_b9]; decide)) (fun c_13 => ?_)
          refine lv_iload_n hx hb dX9_two_16 rfl (lv_at hl 1 rfl) ?_
          refine lv_iload_n hx hb dX9_two_17 rfl (lv_at hl 2 rfl) ?_
          refine lv_icmp_eq (tgt := 31) hx hb dX9_two_18 (by decide) (fun c_9 => absurd c_9 hab9) (fun c_9 => ?_)
          refine lv_iload_n hx hb dX9_two_21 rfl (lv_at hl 3 rfl) ?_
          refine lv_iconst (v := 0) hx hb dX9_two_22 (by decide) ?_
          refine lv_bipush (v := 24) hx hb dX9_two_23 (by decide) ?_
          refine r_det (r_S cx hw (kX9_wrongBy l hl9 g (nI q) 0 24) (va_cwS 3 hts (lw_S q1318 q1319 q94 q1320) rfl rfl rfl (by decide +kernel) ⟨Nat.le_of_ble_eq_true rfl, Nat.le_of_ble_eq_true rfl⟩) [] rfl rfl rfl hl.1 rfl (Nat.le_of_ble_eq_true rfl) dX9_two_25 ⟨Nat.le_of_ble_eq_true rfl, Nat.le_of_ble_eq_true rfl⟩) cx hw [] rfl rfl rfl (ws' := WM g a s m im wa L R rf nu hi lm rn pl sd) (rfl) (fun H locs hw => ?_)
          refine W.eq (g2 := F0 m9 28 ls [.int (wrF (nI q) 0 24)]) rfl ?_
          refine lv_goto (tgt := 32) hx hb dX9_two_28 (by decide) ?_
          refine lv_istore (lv' := [(4, .int (wrF (nI q) 0 24)), (0, .ref (a 0)), (1, .int (nI ka)), (2, .int (nI kb)), (3, .int (nI q))]) hx hb dX9_two_32 hl (by decide) rfl (fun ls hl => ?_)
          refine lv_iload hx hb dX9_two_34 (lv_at hl 0 rfl) ?_
          refine lv_if_eq (tgt := 46) hx hb dX9_two_36 (by decide) (fun c_36 => ?_) (fun c_36 => absurd hwr_n c_36)
          refine lv_iconst (v := 0) hx hb dX9_two_46 (by decide) ?_
          refine lv_istore (lv' := [(5, .int 0), (4, .int (wrF (nI q) 0 24)), (0, .ref (a 0)), (1, .int (nI ka)), (2, .int (nI kb)), (3, .int (nI q))]) hx hb dX9_two_47 hl (by decide) rfl (fun ls hl => ?_)
          exact J (4 + 1) 0 m (by omega) (by omega) rfl _ _ _ (hw) (lv_sub hl [2, 3, 4, 5, 0] rfl)
        · skip
          have hW : wTwo s (nI ka) (nI kb) n = wrF n 0 24 := by simp [wTwo, hps_a9, hps_b9, hab9, hwr_n]
          have hne : ¬ wTwo s (nI ka) (nI kb) n = 0 := by rw [hW]; exact hwr_n
          refine MC.of (by decide) (Nat.le_of_ble_eq_true rfl) ?_
          intro p9 e9 s9 m9 args9 below9 meth9 c9 A9 ls cx htab hw hl
          have hx := cx.1
          have hb := cx.2.1
          have hts := cx.2.2.2.2.1
          have hK := cx.2.2.2.2.2.2.2.1
          have hl : lv_has ls 8 [(0, .ref (a 0)), (1, .int (nI ka)), (2, .int (nI kb)), (3, .int n)] := hl
          refine lv_aload_n hx hb dX9_two_0 rfl (lv_at hl 0 rfl) ?_
          refine lv_iload_n hx hb dX9_two_1 rfl (lv_at hl 1 rfl) ?_
          refine r_det (r_V cx hw (kX9_isPerson l hl9 g a s m im wa L R rf nu hi lm rn pl sd (nI ka)) (cwV 1 hts (lw_V q1257 q1259 qs72 q94 q1260) rfl rfl rfl (by decide +kernel) ⟨Nat.le_of_ble_eq_true rfl, Nat.le_of_ble_eq_true rfl⟩) (r_recv hK hw (k := 0) (ci := 8) rfl rfl) [0, 1, 2, 3, 4, 5, 6, 7, 8] rfl rfl rfl hl.1 rfl (Nat.le_of_ble_eq_true rfl) dX9_two_2 ⟨Nat.le_of_ble_eq_true rfl, Nat.le_of_ble_eq_true rfl⟩) cx hw [0, 1, 2, 3, 4, 5, 6, 7, 8] rfl rfl rfl (ws' := WM g a s m im wa L R rf nu hi lm rn pl sd) (rfl) (fun H locs hw => ?_)
          refine W.eq (g2 := F0 m9 5 ls [.int (bI (psB s (nI ka)))]) rfl ?_
          refine lv_if_eq (tgt := 31) hx hb dX9_two_5 (by decide) (fun c_5 => absurd c_5 (by rw [hps_a9]; decide)) (fun c_5 => ?_)
          refine lv_aload_n hx hb dX9_two_8 rfl (lv_at hl 0 rfl) ?_
          refine lv_iload_n hx hb dX9_two_9 rfl (lv_at hl 2 rfl) ?_
          refine r_det (r_V cx hw (kX9_isPerson l hl9 g a s m im wa L R rf nu hi lm rn pl sd (nI kb)) (cwV 1 hts (lw_V q1257 q1259 qs72 q94 q1260) rfl rfl rfl (by decide +kernel) ⟨Nat.le_of_ble_eq_true rfl, Nat.le_of_ble_eq_true rfl⟩) (r_recv hK hw (k := 0) (ci := 8) rfl rfl) [0, 1, 2, 3, 4, 5, 6, 7, 8] rfl rfl rfl hl.1 rfl (Nat.le_of_ble_eq_true rfl) dX9_two_10 ⟨Nat.le_of_ble_eq_true rfl, Nat.le_of_ble_eq_true rfl⟩) cx hw [0, 1, 2, 3, 4, 5, 6, 7, 8] rfl rfl rfl (ws' := WM g a s m im wa L R rf nu hi lm rn pl sd) (rfl) (fun H locs hw => ?_)
          refine W.eq (g2 := F0 m9 13 ls [.int (bI (psB s (nI kb)))]) rfl ?_
          refine lv_if_eq (tgt := 31) hx hb dX9_two_13 (by decide) (fun c_13 => absurd c_13 (by rw [hps_b9]; decide)) (fun c_13 => ?_)
          refine lv_iload_n hx hb dX9_two_16 rfl (lv_at hl 1 rfl) ?_
          refine lv_iload_n hx hb dX9_two_17 rfl (lv_at hl 2 rfl) ?_
          refine lv_icmp_eq (tgt := 31) hx hb dX9_two_18 (by decide) (fun c_9 => absurd c_9 hab9) (fun c_9 => ?_)
          refine lv_iload_n hx hb dX9_two_21 rfl (lv_at hl 3 rfl) ?_
          refine lv_iconst (v := 0) hx hb dX9_two_22 (by decide) ?_
          refine lv_bipush (v := 24) hx hb dX9_two_23 (by decide) ?_
          refine r_det (r_S cx hw (kX9_wrongBy l hl9 g n 0 24) (va_cwS 3 hts (lw_S q1318 q1319 q94 q1320) rfl rfl rfl (by decide +kernel) ⟨Nat.le_of_ble_eq_true rfl, Nat.le_of_ble_eq_true rfl⟩) [] rfl rfl rfl hl.1 rfl (Nat.le_of_ble_eq_true rfl) dX9_two_25 ⟨Nat.le_of_ble_eq_true rfl, Nat.le_of_ble_eq_true rfl⟩) cx hw [] rfl rfl rfl (ws' := WM g a s m im wa L R rf nu hi lm rn pl sd) (rfl) (fun H locs hw => ?_)
          refine W.eq (g2 := F0 m9 28 ls [.int (wrF n 0 24)]) rfl ?_
          refine lv_goto (tgt := 32) hx hb dX9_two_28 (by decide) ?_
          refine lv_istore (lv' := [(4, .int (wrF n 0 24)), (0, .ref (a 0)), (1, .int (nI ka)), (2, .int (nI kb)), (3, .int n)]) hx hb dX9_two_32 hl (by decide) rfl (fun ls hl => ?_)
          refine lv_iload hx hb dX9_two_34 (lv_at hl 0 rfl) ?_
          refine lv_if_eq (tgt := 46) hx hb dX9_two_36 (by decide) (fun c_36 => absurd c_36 hwr_n) (fun c_36 => ?_)
          refine lv_aload_n hx hb dX9_two_39 rfl (lv_at hl 1 rfl) ?_
          refine lv_iload hx hb dX9_two_40 (lv_at hl 0 rfl) ?_
          refine r_det (r_V cx hw (kX9_no l hl9 g a s m im wa L R rf nu hi lm rn pl sd (wrF n 0 24) (wrF_ok hwr_n)) (cwV 1 hts (lw_V q1213 q1215 qs65 q94 q1216) rfl rfl rfl (by decide +kernel) ⟨Nat.le_of_ble_eq_true rfl, Nat.le_of_ble_eq_true rfl⟩) (r_recv hK hw (k := 0) (ci := 8) rfl rfl) [0, 1, 2, 3, 4, 5, 6, 7, 8] rfl rfl rfl hl.1 rfl (Nat.le_of_ble_eq_true rfl) dX9_two_42 ⟨Nat.le_of_ble_eq_true rfl, Nat.le_of_ble_eq_true rfl⟩) cx hw [0, 1, 2, 3, 4, 5, 6, 7, 8] rfl rfl rfl (ws' := WM g a s m im wa L R (rfU rf (wrF n 0 24)) nu hi lm rn pl sd) (rfl) (fun H locs hw => ?_)
          refine W.eq (g2 := F0 m9 45 ls [.int (wrF n 0 24)]) rfl ?_
          exact r_iret cx hw (⟨_, by rw [ans_n hne, hW], by rw [rfA_n hne, hW]⟩) (Nat.le_of_ble_eq_true rfl) (Nat.le_of_ble_eq_true rfl) dX9_two_45
    · skip
      have hps_b9 : psB s b9 = false := by simpa using hps_b9
      have hW : wTwo s (nI ka) b9 n = -1 := by simp [wTwo, hps_a9, hps_b9]
      have hne : ¬ wTwo s (nI ka) b9 n = 0 := by rw [hW]; decide
      refine MC.of (by decide) (Nat.le_of_ble_eq_true rfl) ?_
      intro p9 e9 s9 m9 args9 below9 meth9 c9 A9 ls cx htab hw hl
      have hx := cx.1
      have hb := cx.2.1
      have hts := cx.2.2.2.2.1
      have hK := cx.2.2.2.2.2.2.2.1
      have hl : lv_has ls 8 [(0, .ref (a 0)), (1, .int (nI ka)), (2, .int b9), (3, .int n)] := hl
      refine lv_aload_n hx hb dX9_two_0 rfl (lv_at hl 0 rfl) ?_
      refine lv_iload_n hx hb dX9_two_1 rfl (lv_at hl 1 rfl) ?_
      refine r_det (r_V cx hw (kX9_isPerson l hl9 g a s m im wa L R rf nu hi lm rn pl sd (nI ka)) (cwV 1 hts (lw_V q1257 q1259 qs72 q94 q1260) rfl rfl rfl (by decide +kernel) ⟨Nat.le_of_ble_eq_true rfl, Nat.le_of_ble_eq_true rfl⟩) (r_recv hK hw (k := 0) (ci := 8) rfl rfl) [0, 1, 2, 3, 4, 5, 6, 7, 8] rfl rfl rfl hl.1 rfl (Nat.le_of_ble_eq_true rfl) dX9_two_2 ⟨Nat.le_of_ble_eq_true rfl, Nat.le_of_ble_eq_true rfl⟩) cx hw [0, 1, 2, 3, 4, 5, 6, 7, 8] rfl rfl rfl (ws' := WM g a s m im wa L R rf nu hi lm rn pl sd) (rfl) (fun H locs hw => ?_)
      refine W.eq (g2 := F0 m9 5 ls [.int (bI (psB s (nI ka)))]) rfl ?_
      refine lv_if_eq (tgt := 31) hx hb dX9_two_5 (by decide) (fun c_5 => absurd c_5 (by rw [hps_a9]; decide)) (fun c_5 => ?_)
      refine lv_aload_n hx hb dX9_two_8 rfl (lv_at hl 0 rfl) ?_
      refine lv_iload_n hx hb dX9_two_9 rfl (lv_at hl 2 rfl) ?_
      refine r_det (r_V cx hw (kX9_isPerson l hl9 g a s m im wa L R rf nu hi lm rn pl sd b9) (cwV 1 hts (lw_V q1257 q1259 qs72 q94 q1260) rfl rfl rfl (by decide +kernel) ⟨Nat.le_of_ble_eq_true rfl, Nat.le_of_ble_eq_true rfl⟩) (r_recv hK hw (k := 0) (ci := 8) rfl rfl) [0, 1, 2, 3, 4, 5, 6, 7, 8] rfl rfl rfl hl.1 rfl (Nat.le_of_ble_eq_true rfl) dX9_two_10 ⟨Nat.le_of_ble_eq_true rfl, Nat.le_of_ble_eq_true rfl⟩) cx hw [0, 1, 2, 3, 4, 5, 6, 7, 8] rfl rfl rfl (ws' := WM g a s m im wa L R rf nu hi lm rn pl sd) (rfl) (fun H locs hw => ?_)
      refine W.eq (g2 := F0 m9 13 ls [.int (bI (psB s b9))]) rfl ?_
      refine lv_if_eq (tgt := 31) hx hb dX9_two_13 (by decide) (fun c_13 => ?_) (fun c_13 => absurd c_13 (by rw [hps_b9]; decide))
      refine lv_iconst (v := (-1)) hx hb dX9_two_31 (by decide) ?_
      refine lv_istore (lv' := [(4, .int (-1)), (0, .ref (a 0)), (1, .int (nI ka)), (2, .int b9), (3, .int n)]) hx hb dX9_two_32 hl (by decide) rfl (fun ls hl => ?_)
      refine lv_iload hx hb dX9_two_34 (lv_at hl 0 rfl) ?_
      refine lv_if_eq (tgt := 46) hx hb dX9_two_36 (by decide) (fun c_36 => absurd c_36 (by decide)) (fun c_36 => ?_)
      refine lv_aload_n hx hb dX9_two_39 rfl (lv_at hl 1 rfl) ?_
      refine lv_iload hx hb dX9_two_40 (lv_at hl 0 rfl) ?_
      refine r_det (r_V cx hw (kX9_no l hl9 g a s m im wa L R rf nu hi lm rn pl sd (-1) (by unfold okC; decide)) (cwV 1 hts (lw_V q1213 q1215 qs65 q94 q1216) rfl rfl rfl (by decide +kernel) ⟨Nat.le_of_ble_eq_true rfl, Nat.le_of_ble_eq_true rfl⟩) (r_recv hK hw (k := 0) (ci := 8) rfl rfl) [0, 1, 2, 3, 4, 5, 6, 7, 8] rfl rfl rfl hl.1 rfl (Nat.le_of_ble_eq_true rfl) dX9_two_42 ⟨Nat.le_of_ble_eq_true rfl, Nat.le_of_ble_eq_true rfl⟩) cx hw [0, 1, 2, 3, 4, 5, 6, 7, 8] rfl rfl rfl (ws' := WM g a s m im wa L R (rfU rf (-1)) nu hi lm rn pl sd) (rfl) (fun H locs hw => ?_)
      refine W.eq (g2 := F0 m9 45 ls [.int (-1)]) rfl ?_
      exact r_iret cx hw (⟨_, by rw [ans_n hne, hW], by rw [rfA_n hne, hW]⟩) (Nat.le_of_ble_eq_true rfl) (Nat.le_of_ble_eq_true rfl) dX9_two_45
  · skip
    have hps_a9 : psB s a9 = false := by simpa using hps_a9
    have hW : wTwo s a9 b9 n = -1 := by simp [wTwo, hps_a9]
    have hne : ¬ wTwo s a9 b9 n = 0 := by rw [hW]; decide
    refine MC.of (by decide) (Nat.le_of_ble_eq_true rfl) ?_
    intro p9 e9 s9 m9 args9 below9 meth9 c9 A9 ls cx htab hw hl
    have hx := cx.1
    have hb := cx.2.1
    have hts := cx.2.2.2.2.1
    have hK := cx.2.2.2.2.2.2.2.1
    have hl : lv_has ls 8 [(0, .ref (a 0)), (1, .int a9), (2, .int b9), (3, .int n)] := hl
    refine lv_aload_n hx hb dX9_two_0 rfl (lv_at hl 0 rfl) ?_
    refine lv_iload_n hx hb dX9_two_1 rfl (lv_at hl 1 rfl) ?_
    refine r_det (r_V cx hw (kX9_isPerson l hl9 g a s m im wa L R rf nu hi lm rn pl sd a9) (cwV 1 hts (lw_V q1257 q1259 qs72 q94 q1260) rfl rfl rfl (by decide +kernel) ⟨Nat.le_of_ble_eq_true rfl, Nat.le_of_ble_eq_true rfl⟩) (r_recv hK hw (k := 0) (ci := 8) rfl rfl) [0, 1, 2, 3, 4, 5, 6, 7, 8] rfl rfl rfl hl.1 rfl (Nat.le_of_ble_eq_true rfl) dX9_two_2 ⟨Nat.le_of_ble_eq_true rfl, Nat.le_of_ble_eq_true rfl⟩) cx hw [0, 1, 2, 3, 4, 5, 6, 7, 8] rfl rfl rfl (ws' := WM g a s m im wa L R rf nu hi lm rn pl sd) (rfl) (fun H locs hw => ?_)
    refine W.eq (g2 := F0 m9 5 ls [.int (bI (psB s a9))]) rfl ?_
    refine lv_if_eq (tgt := 31) hx hb dX9_two_5 (by decide) (fun c_5 => ?_) (fun c_5 => absurd c_5 (by rw [hps_a9]; decide))
    refine lv_iconst (v := (-1)) hx hb dX9_two_31 (by decide) ?_
    refine lv_istore (lv' := [(4, .int (-1)), (0, .ref (a 0)), (1, .int a9), (2, .int b9), (3, .int n)]) hx hb dX9_two_32 hl (by decide) rfl (fun ls hl => ?_)
    refine lv_iload hx hb dX9_two_34 (lv_at hl 0 rfl) ?_
    refine lv_if_eq (tgt := 46) hx hb dX9_two_36 (by decide) (fun c_36 => absurd c_36 (by decide)) (fun c_36 => ?_)
    refine lv_aload_n hx hb dX9_two_39 rfl (lv_at hl 1 rfl) ?_
    refine lv_iload hx hb dX9_two_40 (lv_at hl 0 rfl) ?_
    refine r_det (r_V cx hw (kX9_no l hl9 g a s m im wa L R rf nu hi lm rn pl sd (-1) (by unfold okC; decide)) (cwV 1 hts (lw_V q1213 q1215 qs65 q94 q1216) rfl rfl rfl (by decide +kernel) ⟨Nat.le_of_ble_eq_true rfl, Nat.le_of_ble_eq_true rfl⟩) (r_recv hK hw (k := 0) (ci := 8) rfl rfl) [0, 1, 2, 3, 4, 5, 6, 7, 8] rfl rfl rfl hl.1 rfl (Nat.le_of_ble_eq_true rfl) dX9_two_42 ⟨Nat.le_of_ble_eq_true rfl, Nat.le_of_ble_eq_true rfl⟩) cx hw [0, 1, 2, 3, 4, 5, 6, 7, 8] rfl rfl rfl (ws' := WM g a s m im wa L R (rfU rf (-1)) nu hi lm rn pl sd) (rfl) (fun H locs hw => ?_)
    refine W.eq (g2 := F0 m9 45 ls [.int (-1)]) rfl ?_
    exact r_iret cx hw (⟨_, by rw [ans_n hne, hW], by rw [rfA_n hne, hW]⟩) (Nat.le_of_ble_eq_true rfl) (Nat.le_of_ble_eq_true rfl) dX9_two_45

set_option maxHeartbeats 4000000 in
set_option maxRecDepth 100000 in
theorem kX9_gcd (l : Launch) (hl9 : l.stackTraces = false) (g : GG) (a b : Nat) (ha : a < 2 ^ 63) (hb9 : b < 2 ^ 63) : MC l yX9_gcd cX9_gcd 10 (some .long) 0 0 0 0 g [.long (lN a), .long (lN b)] [] (rt (some (.long (lN (Nat.gcd a b)))) []) (noX) := by
  refine MC.of (by decide) (Nat.le_of_ble_eq_true rfl) ?_
  intro p9 e9 s9 m9 args9 below9 meth9 c9 A9 ls cx htab hw hl
  have hx := cx.1
  have hb := cx.2.1
  have hts := cx.2.2.2.2.1
  have hK := cx.2.2.2.2.2.2.2.1
  have hl : lv_has ls 10 [(0, .long (lN a)), (2, .long (lN b))] := hl
  have J : ∀ (y x : Nat), x < 2 ^ 63 → y < 2 ^ 63 → Nat.gcd x y = Nat.gcd a b → ∀ (H : Heap) (locs : List Loc) (ls : Array Slot), WS g A9 s9.heap [] H locs → lv_has ls 10 [(4, .long (lN x)), (6, .long (lN y))] → W p9 l e9 (rmC 0 0 0 0) s9 m9 args9 below9 meth9 c9 H locs 0 0 (vx_MQ below9 (PostA g A9 (rt (some (.long (lN (Nat.gcd a b)))) [])) (PxA g A9 (pxR (noX))) args9 s9 0 0 A9) (F0 m9 6 ls []) := by
    intro y
    induction y using Nat.strongRecOn with
    | ind y ih =>
      intro x hx9 hy9 hv H locs ls hw hl
      refine lv_lload hx hb dX9_gcd_6 (lv_at hl 1 rfl) ?_
      refine lv_lconst (v := 0) hx hb dX9_gcd_8 (by decide) ?_
      refine W.lcmp hx hb dX9_gcd_9 ?_
      refine lv_if_eq (tgt := 31) hx hb dX9_gcd_10 (by decide) (fun c_10 => ?_) (fun c_10 => ?_)
      · skip
        have c_10 : y = 0 := (pk_lEQ hy9 (by decide)).mp ((lg_cmp_eq _ _).mp c_10)
        refine lv_lload hx hb dX9_gcd_31 (lv_at hl 0 rfl) ?_
        exact r_lret cx hw (⟨by rw [← hv, c_10, Nat.gcd_zero_right], rfl⟩) (Nat.le_of_ble_eq_true rfl) (Nat.le_of_ble_eq_true rfl) dX9_gcd_33
      · skip
        have c_10 : ¬ y = 0 := fun h9 => c_10 ((lg_cmp_eq _ _).mpr (by rw [h9]; rfl))
        refine lv_lload hx hb dX9_gcd_13 (lv_at hl 0 rfl) ?_
        refine lv_lload hx hb dX9_gcd_15 (lv_at hl 1 rfl) ?_
        refine lv_lrem hx hb dX9_gcd_17 (fun h9 => c_10 ((pk_lEQ hy9 (by decide)).mp h9)) ?_
        refine r_topl (x' := lN (x % y)) (pk_lRem hx9 (Nat.pos_of_ne_zero c_10) hy9) ?_
        refine lv_lstore (lv' := [(8, .long (lN (x % y))), (4, .long (lN x)), (6, .long (lN y))]) hx hb dX9_gcd_18 hl (by decide) rfl (fun ls hl => ?_)
        refine lv_lload hx hb dX9_gcd_20 (lv_at hl 2 rfl) ?_
        refine lv_lstore (lv' := [(4, .long (lN y)), (8, .long (lN (x % y))), (6, .long (lN y))]) hx hb dX9_gcd_22 hl (by decide) rfl (fun ls hl => ?_)
        refine lv_lload hx hb dX9_gcd_24 (lv_at hl 1 rfl) ?_
        refine lv_lstore (lv' := [(6, .long (lN (x % y))), (4, .long (lN y)), (8, .long (lN (x % y)))]) hx hb dX9_gcd_26 hl (by decide) rfl (fun ls hl => ?_)
        refine lv_goto (tgt := 6) hx hb dX9_gcd_28 (by decide) ?_
        have hm9 : x % y < y := Nat.mod_lt _ (Nat.pos_of_ne_zero c_10)
        exact ih (x % y) hm9 y hy9 (by omega) (by rw [← hv, Nat.gcd_comm x y, Nat.gcd_rec y x, Nat.gcd_comm]) _ _ _ hw (lv_sub hl [1, 0] rfl)
  refine lv_lload_n hx hb dX9_gcd_0 rfl (lv_at hl 0 rfl) ?_
  refine lv_lstore (lv' := [(4, .long (lN a)), (0, .long (lN a)), (2, .long (lN b))]) hx hb dX9_gcd_1 hl (by decide) rfl (fun ls hl => ?_)
  refine lv_lload_n hx hb dX9_gcd_3 rfl (lv_at hl 2 rfl) ?_
  refine lv_lstore (lv' := [(6, .long (lN b)), (4, .long (lN a)), (0, .long (lN a)), (2, .long (lN b))]) hx hb dX9_gcd_4 hl (by decide) rfl (fun ls hl => ?_)
  exact J b a ha hb9 rfl _ _ _ hw (lv_sub hl [1, 0] rfl)

set_option maxHeartbeats 4000000 in
set_option maxRecDepth 100000 in
theorem kX9_partOf (l : Launch) (hl9 : l.stackTraces = false) (g : GG) (a b : Nat) (ha : a < 2 ^ 63) (hb9 : b < 2 ^ 63) (w9 : Int32) : MC l yX9_partOf cX9_partOf 5 (some .long) 1 29 0 0 g [.long (lN a), .long (lN b), .int w9] [] (rt (some (.long (ptN a b w9))) []) (noX) := by
  refine MC.of (by decide) (Nat.le_of_ble_eq_true rfl) ?_
  intro p9 e9 s9 m9 args9 below9 meth9 c9 A9 ls cx htab hw hl
  have hx := cx.1
  have hb := cx.2.1
  have hts := cx.2.2.2.2.1
  have hK := cx.2.2.2.2.2.2.2.1
  have hl : lv_has ls 5 [(0, .long (lN a)), (2, .long (lN b)), (4, .int w9)] := hl
  refine lv_lload_n hx hb dX9_partOf_0 rfl (lv_at hl 0 rfl) ?_
  refine lv_lconst (v := 0) hx hb dX9_partOf_1 (by decide) ?_
  refine W.lcmp hx hb dX9_partOf_2 ?_
  refine lv_if_ne (tgt := 10) hx hb dX9_partOf_3 (by decide) (fun c_3 => ?_) (fun c_3 => ?_)
  · skip
    have c_3 : ¬ a = 0 := fun h9 => c_3 ((lg_cmp_eq _ _).mpr (by rw [h9]; rfl))
    refine lv_iload hx hb dX9_partOf_10 (lv_at hl 2 rfl) ?_
    refine lv_if_ne (tgt := 19) hx hb dX9_partOf_12 (by decide) (fun c_12 => ?_) (fun c_12 => ?_)
    · skip
      refine lv_lload_n hx hb dX9_partOf_19 rfl (lv_at hl 1 rfl) ?_
      refine lv_lload_n hx hb dX9_partOf_20 rfl (lv_at hl 0 rfl) ?_
      refine lv_lload_n hx hb dX9_partOf_21 rfl (lv_at hl 1 rfl) ?_
      have hg9 : ¬ Nat.gcd a b = 0 := fun h9 => c_3 (Nat.eq_zero_of_gcd_eq_zero_left h9)
      have hg8 : Nat.gcd a b < 2 ^ 63 := Nat.lt_of_le_of_lt (Nat.gcd_le_left b (Nat.pos_of_ne_zero c_3)) ha
      refine r_det (r_S cx hw (kX9_gcd l hl9 g a b ha hb9) (va_cwS 2 hts (lw_S q1463 q1464 q94 q1465) rfl rfl rfl (by decide +kernel) ⟨Nat.le_of_ble_eq_true rfl, Nat.le_of_ble_eq_true rfl⟩) [] rfl rfl rfl hl.1 rfl (Nat.le_of_ble_eq_true rfl) dX9_partOf_22 ⟨Nat.le_of_ble_eq_true rfl, Nat.le_of_ble_eq_true rfl⟩) cx hw [] rfl rfl rfl (ws' := []) (rfl) (fun H locs hw => ?_)
      refine W.eq (g2 := F0 m9 25 ls [.long (lN (Nat.gcd a b)), .long (lN b)]) rfl ?_
      refine lv_ldiv hx hb dX9_partOf_25 (fun h9 => hg9 ((pk_lEQ hg8 (by decide)).mp h9)) ?_
      exact r_lret cx hw (⟨by rw [ptN, if_neg c_3, if_neg c_12, pk_lDiv hb9 (Nat.pos_of_ne_zero hg9) hg8], rfl⟩) (Nat.le_of_ble_eq_true rfl) (Nat.le_of_ble_eq_true rfl) dX9_partOf_26
    · skip
      refine lv_lload_n hx hb dX9_partOf_15 rfl (lv_at hl 0 rfl) ?_
      refine lv_goto (tgt := 20) hx hb dX9_partOf_16 (by decide) ?_
      refine lv_lload_n hx hb dX9_partOf_20 rfl (lv_at hl 0 rfl) ?_
      refine lv_lload_n hx hb dX9_partOf_21 rfl (lv_at hl 1 rfl) ?_
      have hg9 : ¬ Nat.gcd a b = 0 := fun h9 => c_3 (Nat.eq_zero_of_gcd_eq_zero_left h9)
      have hg8 : Nat.gcd a b < 2 ^ 63 := Nat.lt_of_le_of_lt (Nat.gcd_le_left b (Nat.pos_of_ne_zero c_3)) ha
      refine r_det (r_S cx hw (kX9_gcd l hl9 g a b ha hb9) (va_cwS 2 hts (lw_S q1463 q1464 q94 q1465) rfl rfl rfl (by decide +kernel) ⟨Nat.le_of_ble_eq_true rfl, Nat.le_of_ble_eq_true rfl⟩) [] rfl rfl rfl hl.1 rfl (Nat.le_of_ble_eq_true rfl) dX9_partOf_22 ⟨Nat.le_of_ble_eq_true rfl, Nat.le_of_ble_eq_true rfl⟩) cx hw [] rfl rfl rfl (ws' := []) (rfl) (fun H locs hw => ?_)
      refine W.eq (g2 := F0 m9 25 ls [.long (lN (Nat.gcd a b)), .long (lN a)]) rfl ?_
      refine lv_ldiv hx hb dX9_partOf_25 (fun h9 => hg9 ((pk_lEQ hg8 (by decide)).mp h9)) ?_
      exact r_lret cx hw (⟨by rw [ptN, if_neg c_3, if_pos c_12, pk_lDiv ha (Nat.pos_of_ne_zero hg9) hg8], rfl⟩) (Nat.le_of_ble_eq_true rfl) (Nat.le_of_ble_eq_true rfl) dX9_partOf_26
  · skip
    have c_3 : a = 0 := (pk_lEQ ha (by decide)).mp ((lg_cmp_eq _ _).mp c_3)
    refine lv_iload hx hb dX9_partOf_6 (lv_at hl 2 rfl) ?_
    refine lv_i2l hx hb dX9_partOf_8 rfl ?_
    exact r_lret cx hw (⟨by rw [ptN, if_pos c_3], rfl⟩) (Nat.le_of_ble_eq_true rfl) (Nat.le_of_ble_eq_true rfl) dX9_partOf_9

set_option maxHeartbeats 4000000 in
set_option maxRecDepth 100000 in
theorem kX9_row (l : Launch) (hl9 : l.stackTraces = false) (g : GG) (a : Nat → Nat) (s m im wa L R rf nu : Nat → Int32) (hi lm rn pl sd : Int32) (v : Int32)(hr9 : tN rn ≤ 16) (er9 : rn = nI (tN rn)) : MC l yX9_row cX9_row 3 (some .int) 1 22 0 0 g [.ref (a 0), .int v] (WM g a s m im wa L R rf nu hi lm rn pl sd) (rtE (α := Nat → Int32) (some (.int (ans (wRow v rn) (rn + 1)))) (fun x9 => WM g a s x9 im wa L (sA (wRow v rn) (upd R (tN rn) v) R) (rfA (wRow v rn) rf) nu hi lm (iA (wRow v rn) (rn + 1) rn) pl sd)) (noX) := by
  by_cases hwr_v : wrF v 0 99 = 0
  · skip
    obtain ⟨q, hq, rfl⟩ := nI_rng (M := 99) (by decide) (Int32.le_trans (by decide) (wrF_0 hwr_v).1) (wrF_0 hwr_v).2
    have eq : tN (nI q) = q := tN_nI (by omega)
    by_cases h16 : rn = 16
    · skip
      have hW : wRow (nI q) rn = -6 := by simp [wRow, hwr_v, h16]
      have hne : ¬ wRow (nI q) rn = 0 := by rw [hW]; decide
      refine MC.of (by decide) (Nat.le_of_ble_eq_true rfl) ?_
      intro p9 e9 s9 m9 args9 below9 meth9 c9 A9 ls cx htab hw hl
      have hx := cx.1
      have hb := cx.2.1
      have hts := cx.2.2.2.2.1
      have hK := cx.2.2.2.2.2.2.2.1
      have hl : lv_has ls 3 [(0, .ref (a 0)), (1, .int (nI q))] := hl
      refine lv_iload_n hx hb dX9_row_0 rfl (lv_at hl 1 rfl) ?_
      refine lv_iconst (v := 0) hx hb dX9_row_1 (by decide) ?_
      refine lv_bipush (v := 99) hx hb dX9_row_2 (by decide) ?_
      refine r_det (r_S cx hw (kX9_wrongBy l hl9 g (nI q) 0 99) (va_cwS 3 hts (lw_S q1318 q1319 q94 q1320) rfl rfl rfl (by decide +kernel) ⟨Nat.le_of_ble_eq_true rfl, Nat.le_of_ble_eq_true rfl⟩) [] rfl rfl rfl hl.1 rfl (Nat.le_of_ble_eq_true rfl) dX9_row_4 ⟨Nat.le_of_ble_eq_true rfl, Nat.le_of_ble_eq_true rfl⟩) cx hw [] rfl rfl rfl (ws' := WM g a s m im wa L R rf nu hi lm rn pl sd) (rfl) (fun H locs hw => ?_)
      refine W.eq (g2 := F0 m9 7 ls [.int (wrF (nI q) 0 99)]) rfl ?_
      refine lv_istore_n (lv' := [(2, .int (wrF (nI q) 0 99)), (0, .ref (a 0)), (1, .int (nI q))]) hx hb dX9_row_7 rfl hl (by decide) rfl (fun ls hl => ?_)
      refine lv_iload_n hx hb dX9_row_8 rfl (lv_at hl 0 rfl) ?_
      refine lv_if_ne (tgt := 24) hx hb dX9_row_9 (by decide) (fun c_9 => absurd hwr_v c_9) (fun c_9 => ?_)
      refine lv_aload_n hx hb dX9_row_12 rfl (lv_at hl 1 rfl) ?_
      refine r_get cx hw in_X9 0 (ci := 8) (T := TX9) (N := 13) rfl rfl 9 (by decide) q1178 (fun _ h9 => h9) rfl dX9_row_13 ?_
      refine lv_bipush (v := 16) hx hb dX9_row_16 (by decide) ?_
      refine lv_icmp_ne (tgt := 24) hx hb dX9_row_18 (by decide) (fun c_9 => absurd h16 c_9) (fun c_9 => ?_)
      refine lv_bipush (v := (-6)) hx hb dX9_row_21 (by decide) ?_
      refine lv_istore_n (lv' := [(2, .int (-6)), (0, .ref (a 0)), (1, .int (nI q))]) hx hb dX9_row_23 rfl hl (by decide) rfl (fun ls hl => ?_)
      refine lv_iload_n hx hb dX9_row_24 rfl (lv_at hl 0 rfl) ?_
      refine lv_if_eq (tgt := 34) hx hb dX9_row_25 (by decide) (fun c_25 => absurd c_25 (by decide)) (fun c_25 => ?_)
      refine lv_aload_n hx hb dX9_row_28 rfl (lv_at hl 1 rfl) ?_
      refine lv_iload_n hx hb dX9_row_29 rfl (lv_at hl 0 rfl) ?_
      refine r_det (r_V cx hw (kX9_no l hl9 g a s m im wa L R rf nu hi lm rn pl sd (-6) (by unfold okC; decide)) (cwV 1 hts (lw_V q1213 q1215 qs65 q94 q1216) rfl rfl rfl (by decide +kernel) ⟨Nat.le_of_ble_eq_true rfl, Nat.le_of_ble_eq_true rfl⟩) (r_recv hK hw (k := 0) (ci := 8) rfl rfl) [0, 1, 2, 3, 4, 5, 6, 7, 8] rfl rfl rfl hl.1 rfl (Nat.le_of_ble_eq_true rfl) dX9_row_30 ⟨Nat.le_of_ble_eq_true rfl, Nat.le_of_ble_eq_true rfl⟩) cx hw [0, 1, 2, 3, 4, 5, 6, 7, 8] rfl rfl rfl (ws' := WM g a s m im wa L R (rfU rf (-6)) nu hi lm rn pl sd) (rfl) (fun H locs hw => ?_)
      refine W.eq (g2 := F0 m9 33 ls [.int (-6)]) rfl ?_
      exact r_iret cx hw (⟨_, by rw [ans_n hne, hW], by rw [rfA_n hne, sA_n hne, iA_n hne, hW]⟩) (Nat.le_of_ble_eq_true rfl) (Nat.le_of_ble_eq_true rfl) dX9_row_33
    · skip
      have h15 : tN rn < 16 := Nat.lt_of_le_of_ne hr9 (fun h9 => h16 (by rw [er9, h9]; rfl))
      have hW : wRow (nI q) rn = 0 := by simp [wRow, hwr_v, h16]
      refine MC.of (by decide) (Nat.le_of_ble_eq_true rfl) ?_
      intro p9 e9 s9 m9 args9 below9 meth9 c9 A9 ls cx htab hw hl
      have hx := cx.1
      have hb := cx.2.1
      have hts := cx.2.2.2.2.1
      have hK := cx.2.2.2.2.2.2.2.1
      have hl : lv_has ls 3 [(0, .ref (a 0)), (1, .int (nI q))] := hl
      refine lv_iload_n hx hb dX9_row_0 rfl (lv_at hl 1 rfl) ?_
      refine lv_iconst (v := 0) hx hb dX9_row_1 (by decide) ?_
      refine lv_bipush (v := 99) hx hb dX9_row_2 (by decide) ?_
      refine r_det (r_S cx hw (kX9_wrongBy l hl9 g (nI q) 0 99) (va_cwS 3 hts (lw_S q1318 q1319 q94 q1320) rfl rfl rfl (by decide +kernel) ⟨Nat.le_of_ble_eq_true rfl, Nat.le_of_ble_eq_true rfl⟩) [] rfl rfl rfl hl.1 rfl (Nat.le_of_ble_eq_true rfl) dX9_row_4 ⟨Nat.le_of_ble_eq_true rfl, Nat.le_of_ble_eq_true rfl⟩) cx hw [] rfl rfl rfl (ws' := WM g a s m im wa L R rf nu hi lm rn pl sd) (rfl) (fun H locs hw => ?_)
      refine W.eq (g2 := F0 m9 7 ls [.int (wrF (nI q) 0 99)]) rfl ?_
      refine lv_istore_n (lv' := [(2, .int (wrF (nI q) 0 99)), (0, .ref (a 0)), (1, .int (nI q))]) hx hb dX9_row_7 rfl hl (by decide) rfl (fun ls hl => ?_)
      refine lv_iload_n hx hb dX9_row_8 rfl (lv_at hl 0 rfl) ?_
      refine lv_if_ne (tgt := 24) hx hb dX9_row_9 (by decide) (fun c_9 => absurd hwr_v c_9) (fun c_9 => ?_)
      refine lv_aload_n hx hb dX9_row_12 rfl (lv_at hl 1 rfl) ?_
      refine r_get cx hw in_X9 0 (ci := 8) (T := TX9) (N := 13) rfl rfl 9 (by decide) q1178 (fun _ h9 => h9) rfl dX9_row_13 ?_
      refine lv_bipush (v := 16) hx hb dX9_row_16 (by decide) ?_
      refine lv_icmp_ne (tgt := 24) hx hb dX9_row_18 (by decide) (fun c_9 => ?_) (fun c_9 => absurd c_9 h16)
      refine lv_iload_n hx hb dX9_row_24 rfl (lv_at hl 0 rfl) ?_
      refine lv_if_eq (tgt := 34) hx hb dX9_row_25 (by decide) (fun c_25 => ?_) (fun c_25 => absurd hwr_v c_25)
      refine lv_aload_n hx hb dX9_row_34 rfl (lv_at hl 1 rfl) ?_
      refine r_get cx hw in_X9 0 (ci := 8) (T := TX9) (N := 13) rfl rfl 6 (by decide) q1175 (fun _ h9 => h9) rfl dX9_row_35 ?_
      refine lv_aload_n hx hb dX9_row_38 rfl (lv_at hl 1 rfl) ?_
      refine r_get cx hw in_X9 0 (ci := 8) (T := TX9) (N := 13) rfl rfl 9 (by decide) q1178 (fun _ h9 => h9) rfl dX9_row_39 ?_
      refine r_topi (x' := nI (tN rn)) (er9) ?_
      refine lv_iload_n hx hb dX9_row_42 rfl (lv_at hl 2 rfl) ?_
      refine r_iast cx hw 6 rfl (tN rn) rfl (by omega) (Nat.le_of_ble_eq_true rfl) dX9_row_43 (fun H locs hw => ?_)
      have hw : WS g A9 s9.heap (WM g a s m im wa L (upd R (tN rn) (nI q)) rf nu hi lm rn pl sd) H locs := hw
      refine lv_aload_n hx hb dX9_row_44 rfl (lv_at hl 1 rfl) ?_
      refine lv_dup hx hb dX9_row_45 rfl ?_
      refine r_get cx hw in_X9 0 (ci := 8) (T := TX9) (N := 13) rfl rfl 9 (by decide) q1178 (fun _ h9 => h9) rfl dX9_row_46 ?_
      refine lv_iconst (v := 1) hx hb dX9_row_49 (by decide) ?_
      refine lv_iadd hx hb dX9_row_50 ?_
      refine r_put cx hw in_X9 tyX9 tyX9_ok nmX9 0 (ci := 8) (T := TX9) (N := 13) rfl rfl 9 (by decide) q1178 (fun _ h9 => h9) rfl (rfl) (rfl) (Nat.le_of_ble_eq_true rfl) dX9_row_51 (fun H locs hw => ?_)
      have hw : WS g A9 s9.heap (WM g a s m im wa L (upd R (tN rn) (nI q)) rf nu hi lm (rn + 1) pl sd) H locs := hw
      refine lv_aload_n hx hb dX9_row_54 rfl (lv_at hl 1 rfl) ?_
      refine r_get cx hw in_X9 0 (ci := 8) (T := TX9) (N := 13) rfl rfl 9 (by decide) q1178 (fun _ h9 => h9) rfl dX9_row_55 ?_
      exact r_iret cx hw (⟨_, by rw [hW, ans_0], by rw [hW, rfA_0, sA_0, iA_0]⟩) (Nat.le_of_ble_eq_true rfl) (Nat.le_of_ble_eq_true rfl) dX9_row_58
  · skip
    have hW : wRow v rn = wrF v 0 99 := by simp [wRow, hwr_v]
    have hne : ¬ wRow v rn = 0 := by rw [hW]; exact hwr_v
    refine MC.of (by decide) (Nat.le_of_ble_eq_true rfl) ?_
    intro p9 e9 s9 m9 args9 below9 meth9 c9 A9 ls cx htab hw hl
    have hx := cx.1
    have hb := cx.2.1
    have hts := cx.2.2.2.2.1
    have hK := cx.2.2.2.2.2.2.2.1
    have hl : lv_has ls 3 [(0, .ref (a 0)), (1, .int v)] := hl
    refine lv_iload_n hx hb dX9_row_0 rfl (lv_at hl 1 rfl) ?_
    refine lv_iconst (v := 0) hx hb dX9_row_1 (by decide) ?_
    refine lv_bipush (v := 99) hx hb dX9_row_2 (by decide) ?_
    refine r_det (r_S cx hw (kX9_wrongBy l hl9 g v 0 99) (va_cwS 3 hts (lw_S q1318 q1319 q94 q1320) rfl rfl rfl (by decide +kernel) ⟨Nat.le_of_ble_eq_true rfl, Nat.le_of_ble_eq_true rfl⟩) [] rfl rfl rfl hl.1 rfl (Nat.le_of_ble_eq_true rfl) dX9_row_4 ⟨Nat.le_of_ble_eq_true rfl, Nat.le_of_ble_eq_true rfl⟩) cx hw [] rfl rfl rfl (ws' := WM g a s m im wa L R rf nu hi lm rn pl sd) (rfl) (fun H locs hw => ?_)
    refine W.eq (g2 := F0 m9 7 ls [.int (wrF v 0 99)]) rfl ?_
    refine lv_istore_n (lv' := [(2, .int (wrF v 0 99)), (0, .ref (a 0)), (1, .int v)]) hx hb dX9_row_7 rfl hl (by decide) rfl (fun ls hl => ?_)
    refine lv_iload_n hx hb dX9_row_8 rfl (lv_at hl 0 rfl) ?_
    refine lv_if_ne (tgt := 24) hx hb dX9_row_9 (by decide) (fun c_9 => ?_) (fun c_9 => absurd c_9 hwr_v)
    refine lv_iload_n hx hb dX9_row_24 rfl (lv_at hl 0 rfl) ?_
    refine lv_if_eq (tgt := 34) hx hb dX9_row_25 (by decide) (fun c_25 => absurd c_25 hwr_v) (fun c_25 => ?_)
    refine lv_aload_n hx hb dX9_row_28 rfl (lv_at hl 1 rfl) ?_
    refine lv_iload_n hx hb dX9_row_29 rfl (lv_at hl 0 rfl) ?_
    refine r_det (r_V cx hw (kX9_no l hl9 g a s m im wa L R rf nu hi lm rn pl sd (wrF v 0 99) (wrF_ok hwr_v)) (cwV 1 hts (lw_V q1213 q1215 qs65 q94 q1216) rfl rfl rfl (by decide +kernel) ⟨Nat.le_of_ble_eq_true rfl, Nat.le_of_ble_eq_true rfl⟩) (r_recv hK hw (k := 0) (ci := 8) rfl rfl) [0, 1, 2, 3, 4, 5, 6, 7, 8] rfl rfl rfl hl.1 rfl (Nat.le_of_ble_eq_true rfl) dX9_row_30 ⟨Nat.le_of_ble_eq_true rfl, Nat.le_of_ble_eq_true rfl⟩) cx hw [0, 1, 2, 3, 4, 5, 6, 7, 8] rfl rfl rfl (ws' := WM g a s m im wa L R (rfU rf (wrF v 0 99)) nu hi lm rn pl sd) (rfl) (fun H locs hw => ?_)
    refine W.eq (g2 := F0 m9 33 ls [.int (wrF v 0 99)]) rfl ?_
    exact r_iret cx hw (⟨_, by rw [ans_n hne, hW], by rw [rfA_n hne, sA_n hne, iA_n hne, hW]⟩) (Nat.le_of_ble_eq_true rfl) (Nat.le_of_ble_eq_true rfl) dX9_row_33

set_option maxHeartbeats 4000000 in
set_option maxRecDepth 100000 in
theorem kX9_judge (l : Launch) (hl9 : l.stackTraces = false) (g : GG) (a : Nat → Nat) (s m im wa L R rf nu : Nat → Int32) (hi lm rn pl sd : Int32) (hI : InvM s) (hr9 : tN rn ≤ 16) (er9 : rn = nI (tN rn)) : MC l yX9_judge cX9_judge 3 (some .int) 2 43 0 0 g [.ref (a 0)] (WM g a s m im wa L R rf nu hi lm rn pl sd) (rtE (α := Nat → Int32) (some (.int (vJud s R rn))) (fun x9 => WM g a s x9 im wa L R rf nu hi lm 0 pl sd)) (noX) := by
  refine MC.of (by decide) (Nat.le_of_ble_eq_true rfl) ?_
  intro p9 e9 s9 m9 args9 below9 meth9 c9 A9 ls cx htab hw hl
  have hx := cx.1
  have hb := cx.2.1
  have hts := cx.2.2.2.2.1
  have hK := cx.2.2.2.2.2.2.2.1
  have hl : lv_has ls 3 [(0, .ref (a 0))] := hl
  have J : ∀ (n9 j : Nat) , j ≤ (tN rn) → (tN rn) < n9 + j → vJud s R rn = ffV (juB s R) (tN rn - j) j → ∀ (H : Heap) (locs : List Loc) (ls : Array Slot), WS g A9 s9.heap (WM g a s m im wa L R rf nu hi lm 0 pl sd) H locs → lv_has ls 3 [(0, .ref (a 0)), (1, .int (nI (tN rn))), (2, .int (nI j))] → W p9 l e9 (rmC 2 43 0 0) s9 m9 args9 below9 meth9 c9 H locs 0 0 (vx_MQ below9 (PostA g A9 (rtE (α := Nat → Int32) (some (.int (vJud s R rn))) (fun x9 => WM g a s x9 im wa L R rf nu hi lm 0 pl sd))) (PxA g A9 (pxR (noX))) args9 s9 0 0 A9) (F0 m9 12 ls []) := by
    intro n9
    induction n9 with
    | zero => intro j  hj hk9; exact absurd hk9 (by omega)
    | succ n9 ih_J =>
      intro j  hj hk9 hv H locs ls hw hl
      refine lv_iload_n hx hb dX9_judge_12 rfl (lv_at hl 2 rfl) ?_
      refine lv_iload_n hx hb dX9_judge_13 rfl (lv_at hl 1 rfl) ?_
      refine lv_icmp_ge (tgt := 52) hx hb dX9_judge_14 (by decide) (fun c_14 => ?_) (fun c_14 => ?_)
      · skip
        have c_14 : (tN rn) ≤ j := (nI_leI (a := (tN rn)) (b := j) (by omega) (by omega)).mp c_14
        refine lv_bipush (v := (-9)) hx hb dX9_judge_52 (by decide) ?_
        exact r_iret cx hw (⟨m, by rw [hv, ffV_e (by omega)], rfl⟩) (Nat.le_of_ble_eq_true rfl) (Nat.le_of_ble_eq_true rfl) dX9_judge_54
      · skip
        have c_14 : j < (tN rn) := Nat.not_le.mp (fun h9 => c_14 ((nI_leI (a := (tN rn)) (b := j) (by omega) (by omega)).mpr h9))
        refine lv_aload_n hx hb dX9_judge_17 rfl (lv_at hl 0 rfl) ?_
        refine lv_iload_n hx hb dX9_judge_18 rfl (lv_at hl 2 rfl) ?_
        refine r_det (r_V cx hw (kX9_isPerson l hl9 g a s m im wa L R rf nu hi lm 0 pl sd (nI j)) (cwV 1 hts (lw_V q1257 q1259 qs72 q94 q1260) rfl rfl rfl (by decide +kernel) ⟨Nat.le_of_ble_eq_true rfl, Nat.le_of_ble_eq_true rfl⟩) (r_recv hK hw (k := 0) (ci := 8) rfl rfl) [0, 1, 2, 3, 4, 5, 6, 7, 8] rfl rfl rfl hl.1 rfl (Nat.le_of_ble_eq_true rfl) dX9_judge_19 ⟨Nat.le_of_ble_eq_true rfl, Nat.le_of_ble_eq_true rfl⟩) cx hw [0, 1, 2, 3, 4, 5, 6, 7, 8] rfl rfl rfl (ws' := WM g a s m im wa L R rf nu hi lm 0 pl sd) (rfl) (fun H locs hw => ?_)
        refine W.eq (g2 := F0 m9 22 ls [.int (bI (psB s (nI j)))]) rfl ?_
        refine lv_if_eq (tgt := 44) hx hb dX9_judge_22 (by decide) (fun c_22 => ?_) (fun c_22 => ?_)
        · skip
          have c_22 := bI_e0 c_22
          refine lv_iload_n hx hb dX9_judge_44 rfl (lv_at hl 2 rfl) ?_
          exact r_iret cx hw (⟨m, by rw [hv, ffV_t (by omega) (by rw [juB, c_22]; rfl)], rfl⟩) (Nat.le_of_ble_eq_true rfl) (Nat.le_of_ble_eq_true rfl) dX9_judge_45
        · skip
          have c_22 := bI_n0 c_22
          obtain ⟨q, hq, eq9⟩ := psB_rng hI c_22
          have hN := hI.1
          have hq9 : j = q := (nI_eq (by omega) (by omega)).mp eq9
          refine lv_aload_n hx hb dX9_judge_25 rfl (lv_at hl 0 rfl) ?_
          refine r_get cx hw in_X9 0 (ci := 8) (T := TX9) (N := 13) rfl rfl 0 (by decide) q1169 (fun _ h9 => h9) rfl dX9_judge_26 ?_
          refine lv_iload_n hx hb dX9_judge_29 rfl (lv_at hl 2 rfl) ?_
          refine lv_iconst (v := 2) hx hb dX9_judge_30 (by decide) ?_
          refine r_det (r_S cx hw (kX9_of l hl9 g j 2) (va_cwS 2 hts (lw_S q1254 q1255 q94 q1256) rfl rfl rfl (by decide +kernel) ⟨Nat.le_of_ble_eq_true rfl, Nat.le_of_ble_eq_true rfl⟩) [] rfl rfl rfl hl.1 rfl (Nat.le_of_ble_eq_true rfl) dX9_judge_31 ⟨Nat.le_of_ble_eq_true rfl, Nat.le_of_ble_eq_true rfl⟩) cx hw [] rfl rfl rfl (ws' := WM g a s m im wa L R rf nu hi lm 0 pl sd) (rfl) (fun H locs hw => ?_)
          refine W.eq (g2 := F0 m9 34 ls [.int (nI (5 + 7 * j + 2)), .ref (a 1)]) rfl ?_
          refine r_iald cx hw 1 rfl (5 + 7 * j + 2) rfl (by omega) (Nat.le_of_ble_eq_true rfl) dX9_judge_34 ?_
          refine lv_aload_n hx hb dX9_judge_35 rfl (lv_at hl 0 rfl) ?_
          refine r_get cx hw in_X9 0 (ci := 8) (T := TX9) (N := 13) rfl rfl 6 (by decide) q1175 (fun _ h9 => h9) rfl dX9_judge_36 ?_
          refine lv_iload_n hx hb dX9_judge_39 rfl (lv_at hl 2 rfl) ?_
          refine r_iald cx hw 6 rfl j rfl (by omega) (Nat.le_of_ble_eq_true rfl) dX9_judge_40 ?_
          refine lv_icmp_eq (tgt := 46) hx hb dX9_judge_41 (by decide) (fun c_41 => ?_) (fun c_41 => ?_)
          · skip
            refine lv_iinc (v := nI (j + 1)) (lv' := [(2, .int (nI (j + 1))), (0, .ref (a 0)), (1, .int (nI (tN rn)))]) hx hb dX9_judge_46 hl (k := 2) rfl (nI_1 j) (by decide) rfl (fun ls hl => ?_)
            refine lv_goto (tgt := 12) hx hb dX9_judge_49 (by decide) ?_
            exact ih_J (j + 1)  (by omega) (by omega) (hv.trans (ffV_f (by omega) (by rw [juB, c_22, decide_eq_true c_41]; rfl))) _ _ _ (hw) (lv_sub hl [1, 2, 0] rfl)
          · skip
            refine lv_iload_n hx hb dX9_judge_44 rfl (lv_at hl 2 rfl) ?_
            exact r_iret cx hw (⟨m, by rw [hv, ffV_t (by omega) (by rw [juB, decide_eq_false c_41]; simp)], rfl⟩) (Nat.le_of_ble_eq_true rfl) (Nat.le_of_ble_eq_true rfl) dX9_judge_45
  refine lv_aload_n hx hb dX9_judge_0 rfl (lv_at hl 0 rfl) ?_
  refine r_get cx hw in_X9 0 (ci := 8) (T := TX9) (N := 13) rfl rfl 9 (by decide) q1178 (fun _ h9 => h9) rfl dX9_judge_1 ?_
  refine lv_istore_n (lv' := [(1, .int rn), (0, .ref (a 0))]) hx hb dX9_judge_4 rfl hl (by decide) rfl (fun ls hl => ?_)
  have hl : lv_has ls 3 [(1, .int (nI (tN rn))), (0, .ref (a 0))] := by rw [← er9]; exact hl
  refine lv_aload_n hx hb dX9_judge_5 rfl (lv_at hl 1 rfl) ?_
  refine lv_iconst (v := 0) hx hb dX9_judge_6 (by decide) ?_
  refine r_put cx hw in_X9 tyX9 tyX9_ok nmX9 0 (ci := 8) (T := TX9) (N := 13) rfl rfl 9 (by decide) q1178 (fun _ h9 => h9) rfl (rfl) (rfl) (Nat.le_of_ble_eq_true rfl) dX9_judge_7 (fun H locs hw => ?_)
  have hw : WS g A9 s9.heap (WM g a s m im wa L R rf nu hi lm 0 pl sd) H locs := hw
  refine lv_iconst (v := 0) hx hb dX9_judge_10 (by decide) ?_
  refine lv_istore_n (lv' := [(2, .int 0), (1, .int (nI (tN rn))), (0, .ref (a 0))]) hx hb dX9_judge_11 rfl hl (by decide) rfl (fun ls hl => ?_)
  exact J ((tN rn) + 1) 0  (by omega) (by omega) rfl _ _ _ (hw) (lv_sub hl [2, 1, 0] rfl)

set_option maxHeartbeats 4000000 in
set_option maxRecDepth 100000 in
theorem kX9_clear (l : Launch) (hl9 : l.stackTraces = false) (g : GG) (a : Nat → Nat) (s m im wa L R rf nu : Nat → Int32) (hi lm rn pl sd : Int32)  : MC l yX9_clear cX9_clear 2 (some .int) 0 0 0 0 g [.ref (a 0)] (WM g a s m im wa L R rf nu hi lm rn pl sd) (rtE (α := Nat → Int32) (some (.int rn)) (fun x9 => WM g a s x9 im wa L R rf nu hi lm 0 pl sd)) (noX) := by
  refine MC.of (by decide) (Nat.le_of_ble_eq_true rfl) ?_
  intro p9 e9 s9 m9 args9 below9 meth9 c9 A9 ls cx htab hw hl
  have hx := cx.1
  have hb := cx.2.1
  have hts := cx.2.2.2.2.1
  have hK := cx.2.2.2.2.2.2.2.1
  have hl : lv_has ls 2 [(0, .ref (a 0))] := hl
  refine lv_aload_n hx hb dX9_clear_0 rfl (lv_at hl 0 rfl) ?_
  refine r_get cx hw in_X9 0 (ci := 8) (T := TX9) (N := 13) rfl rfl 9 (by decide) q1178 (fun _ h9 => h9) rfl dX9_clear_1 ?_
  refine lv_istore_n (lv' := [(1, .int rn), (0, .ref (a 0))]) hx hb dX9_clear_4 rfl hl (by decide) rfl (fun ls hl => ?_)
  refine lv_aload_n hx hb dX9_clear_5 rfl (lv_at hl 1 rfl) ?_
  refine lv_iconst (v := 0) hx hb dX9_clear_6 (by decide) ?_
  refine r_put cx hw in_X9 tyX9 tyX9_ok nmX9 0 (ci := 8) (T := TX9) (N := 13) rfl rfl 9 (by decide) q1178 (fun _ h9 => h9) rfl (rfl) (rfl) (Nat.le_of_ble_eq_true rfl) dX9_clear_7 (fun H locs hw => ?_)
  have hw : WS g A9 s9.heap (WM g a s m im wa L R rf nu hi lm 0 pl sd) H locs := hw
  refine lv_iload_n hx hb dX9_clear_10 rfl (lv_at hl 0 rfl) ?_
  exact r_iret cx hw (⟨_, rfl, rfl⟩) (Nat.le_of_ble_eq_true rfl) (Nat.le_of_ble_eq_true rfl) dX9_clear_11

set_option maxHeartbeats 4000000 in
set_option maxRecDepth 100000 in
theorem kX9_drawn (l : Launch) (hl9 : l.stackTraces = false) (g : GG) (a : Nat → Nat) (s m im wa L R rf nu : Nat → Int32) (hi lm rn pl sd : Int32)  : MC l yX9_drawn cX9_drawn 2 (some .int) 0 0 0 0 g [.ref (a 0), .int 31] (WM g a s m im wa L R rf nu hi lm rn pl sd) (rt (some (.int (drZ (nxZ sd)))) (WM g a s m im wa L R rf nu hi lm rn pl (nxZ sd))) (noX) := by
  refine MC.of (by decide) (Nat.le_of_ble_eq_true rfl) ?_
  intro p9 e9 s9 m9 args9 below9 meth9 c9 A9 ls cx htab hw hl
  have hx := cx.1
  have hb := cx.2.1
  have hts := cx.2.2.2.2.1
  have hK := cx.2.2.2.2.2.2.2.1
  have hl : lv_has ls 2 [(0, .ref (a 0)), (1, .int 31)] := hl
  refine lv_aload_n hx hb dX9_drawn_0 rfl (lv_at hl 0 rfl) ?_
  refine lv_aload_n hx hb dX9_drawn_1 rfl (lv_at hl 0 rfl) ?_
  refine r_get cx hw in_X9 0 (ci := 8) (T := TX9) (N := 13) rfl rfl 12 (by decide) q1181 (fun _ h9 => h9) rfl dX9_drawn_2 ?_
  refine lv_ldc hx hb cx.2.2.2.1 (hts _ q1494) dX9_drawn_5 ?_
  refine lv_imul hx hb dX9_drawn_7 ?_
  refine lv_ldc hx hb cx.2.2.2.1 (hts _ q1495) dX9_drawn_8 ?_
  refine lv_iadd hx hb dX9_drawn_10 ?_
  refine r_put cx hw in_X9 tyX9 tyX9_ok nmX9 0 (ci := 8) (T := TX9) (N := 13) rfl rfl 12 (by decide) q1181 (fun _ h9 => h9) rfl (rfl) (rfl) (Nat.le_of_ble_eq_true rfl) dX9_drawn_11 (fun H locs hw => ?_)
  have hw : WS g A9 s9.heap (WM g a s m im wa L R rf nu hi lm rn pl ((sd * 1664525) + 1013904223)) H locs := hw
  refine lv_aload_n hx hb dX9_drawn_14 rfl (lv_at hl 0 rfl) ?_
  refine r_get cx hw in_X9 0 (ci := 8) (T := TX9) (N := 13) rfl rfl 12 (by decide) q1181 (fun _ h9 => h9) rfl dX9_drawn_15 ?_
  refine lv_ldc hx hb cx.2.2.2.1 (hts _ q1496) dX9_drawn_18 ?_
  refine lv_iand hx hb dX9_drawn_20 ?_
  refine lv_sipush (v := 256) hx hb dX9_drawn_21 (by decide) ?_
  refine lv_idiv hx hb dX9_drawn_24 (by decide) ?_
  refine lv_iload_n hx hb dX9_drawn_25 rfl (lv_at hl 1 rfl) ?_
  refine lv_irem hx hb dX9_drawn_26 (by decide) ?_
  refine r_topi (x' := irem ((((sd * 1664525) + 1013904223) &&& 2147483647) / 256) 31) (rfl) ?_
  exact r_iret cx hw (⟨rfl, rfl⟩) (Nat.le_of_ble_eq_true rfl) (Nat.le_of_ble_eq_true rfl) dX9_drawn_27

set_option maxHeartbeats 4000000 in
set_option maxRecDepth 100000 in
theorem kX9_image (l : Launch) (hl9 : l.stackTraces = false) (g : GG) (a : Nat → Nat) (s m im wa L R rf nu : Nat → Int32) (hi lm rn pl sd : Int32)  : MC l yX9_image cX9_image 1 (some .int) 1 22 0 0 g [.ref (a 0)] (WM g a s m im wa L R rf nu hi lm rn pl sd) (rtE (α := Nat → Int32) (some (.int (s 1))) (fun x9 => WM g a s x9 s wa L R rf nu 1 lm rn pl sd)) (noX) := by
  refine MC.of (by decide) (Nat.le_of_ble_eq_true rfl) ?_
  intro p9 e9 s9 m9 args9 below9 meth9 c9 A9 ls cx htab hw hl
  have hx := cx.1
  have hb := cx.2.1
  have hts := cx.2.2.2.2.1
  have hK := cx.2.2.2.2.2.2.2.1
  have hl : lv_has ls 1 [(0, .ref (a 0))] := hl
  refine lv_aload_n hx hb dX9_image_0 rfl (lv_at hl 0 rfl) ?_
  refine r_get cx hw in_X9 0 (ci := 8) (T := TX9) (N := 13) rfl rfl 0 (by decide) q1169 (fun _ h9 => h9) rfl dX9_image_1 ?_
  refine lv_aload_n hx hb dX9_image_4 rfl (lv_at hl 0 rfl) ?_
  refine r_get cx hw in_X9 0 (ci := 8) (T := TX9) (N := 13) rfl rfl 2 (by decide) q1171 (fun _ h9 => h9) rfl dX9_image_5 ?_
  refine r_det (r_S cx hw (kX9_copies l hl9 g (a 1) (a 3) s im) (va_cwS 2 hts (lw_S q1243 q1244 q94 q1245) rfl rfl rfl (by decide +kernel) ⟨Nat.le_of_ble_eq_true rfl, Nat.le_of_ble_eq_true rfl⟩) [1, 3] rfl rfl rfl hl.1 rfl (Nat.le_of_ble_eq_true rfl) dX9_image_8 ⟨Nat.le_of_ble_eq_true rfl, Nat.le_of_ble_eq_true rfl⟩) cx hw [1, 3] rfl rfl rfl (ws' := WM g a s m s wa L R rf nu hi lm rn pl sd) (rfl) (fun H locs hw => ?_)
  refine W.eq (g2 := F0 m9 11 ls []) rfl ?_
  refine lv_aload_n hx hb dX9_image_11 rfl (lv_at hl 0 rfl) ?_
  refine lv_iconst (v := 1) hx hb dX9_image_12 (by decide) ?_
  refine r_put cx hw in_X9 tyX9 tyX9_ok nmX9 0 (ci := 8) (T := TX9) (N := 13) rfl rfl 4 (by decide) q1173 (fun _ h9 => h9) rfl (by decide) (by decide) (Nat.le_of_ble_eq_true rfl) dX9_image_13 (fun H locs hw => ?_)
  have hw : WS g A9 s9.heap (WM g a s m s wa L R rf nu 1 lm rn pl sd) H locs := hw
  refine lv_aload_n hx hb dX9_image_16 rfl (lv_at hl 0 rfl) ?_
  refine r_get cx hw in_X9 0 (ci := 8) (T := TX9) (N := 13) rfl rfl 0 (by decide) q1169 (fun _ h9 => h9) rfl dX9_image_17 ?_
  refine lv_iconst (v := 1) hx hb dX9_image_20 (by decide) ?_
  refine r_iald cx hw 1 rfl 1 rfl (by omega) (Nat.le_of_ble_eq_true rfl) dX9_image_21 ?_
  exact r_iret cx hw (⟨_, rfl, rfl⟩) (Nat.le_of_ble_eq_true rfl) (Nat.le_of_ble_eq_true rfl) dX9_image_22

set_option maxHeartbeats 4000000 in
set_option maxRecDepth 100000 in
theorem kX9_on (l : Launch) (hl9 : l.stackTraces = false) (g : GG) (a : Nat → Nat) (s m im wa L R rf nu : Nat → Int32) (hi lm rn pl sd : Int32)  : MC l yX9_on cX9_on 1 (some .int) 1 22 0 0 g [.ref (a 0)] (WM g a s m im wa L R rf nu hi lm rn pl sd) (rtE (α := Nat → Int32) (some (.int (ans (wOn hi) (im 1)))) (fun x9 => WM g a (sA (wOn hi) im s) x9 im wa L R (rfA (wOn hi) rf) nu hi lm rn pl sd)) (noX) := by
  by_cases h1 : hi = 0
  · skip
    have hW : wOn hi = -3 := by simp [wOn, h1]
    have hne : ¬ wOn hi = 0 := by rw [hW]; decide
    refine MC.of (by decide) (Nat.le_of_ble_eq_true rfl) ?_
    intro p9 e9 s9 m9 args9 below9 meth9 c9 A9 ls cx htab hw hl
    have hx := cx.1
    have hb := cx.2.1
    have hts := cx.2.2.2.2.1
    have hK := cx.2.2.2.2.2.2.2.1
    have hl : lv_has ls 1 [(0, .ref (a 0))] := hl
    refine lv_aload_n hx hb dX9_on_0 rfl (lv_at hl 0 rfl) ?_
    refine r_get cx hw in_X9 0 (ci := 8) (T := TX9) (N := 13) rfl rfl 4 (by decide) q1173 (fun _ h9 => h9) rfl dX9_on_1 ?_
    refine lv_if_ne (tgt := 14) hx hb dX9_on_4 (by decide) (fun c_9 => absurd h1 c_9) (fun c_9 => ?_)
    refine lv_aload_n hx hb dX9_on_7 rfl (lv_at hl 0 rfl) ?_
    refine lv_bipush (v := (-3)) hx hb dX9_on_8 (by decide) ?_
    refine r_det (r_V cx hw (kX9_no l hl9 g a s m im wa L R rf nu hi lm rn pl sd (-3) (by unfold okC; decide)) (cwV 1 hts (lw_V q1213 q1215 qs65 q94 q1216) rfl rfl rfl (by decide +kernel) ⟨Nat.le_of_ble_eq_true rfl, Nat.le_of_ble_eq_true rfl⟩) (r_recv hK hw (k := 0) (ci := 8) rfl rfl) [0, 1, 2, 3, 4, 5, 6, 7, 8] rfl rfl rfl hl.1 rfl (Nat.le_of_ble_eq_true rfl) dX9_on_10 ⟨Nat.le_of_ble_eq_true rfl, Nat.le_of_ble_eq_true rfl⟩) cx hw [0, 1, 2, 3, 4, 5, 6, 7, 8] rfl rfl rfl (ws' := WM g a s m im wa L R (rfU rf (-3)) nu hi lm rn pl sd) (rfl) (fun H locs hw => ?_)
    refine W.eq (g2 := F0 m9 13 ls [.int (-3)]) rfl ?_
    exact r_iret cx hw (⟨_, by rw [ans_n hne, hW], by rw [rfA_n hne, sA_n hne, hW]⟩) (Nat.le_of_ble_eq_true rfl) (Nat.le_of_ble_eq_true rfl) dX9_on_13
  · skip
    have hW : wOn hi = 0 := by simp [wOn, h1]
    refine MC.of (by decide) (Nat.le_of_ble_eq_true rfl) ?_
    intro p9 e9 s9 m9 args9 below9 meth9 c9 A9 ls cx htab hw hl
    have hx := cx.1
    have hb := cx.2.1
    have hts := cx.2.2.2.2.1
    have hK := cx.2.2.2.2.2.2.2.1
    have hl : lv_has ls 1 [(0, .ref (a 0))] := hl
    refine lv_aload_n hx hb dX9_on_0 rfl (lv_at hl 0 rfl) ?_
    refine r_get cx hw in_X9 0 (ci := 8) (T := TX9) (N := 13) rfl rfl 4 (by decide) q1173 (fun _ h9 => h9) rfl dX9_on_1 ?_
    refine lv_if_ne (tgt := 14) hx hb dX9_on_4 (by decide) (fun c_9 => ?_) (fun c_9 => absurd c_9 h1)
    refine lv_aload_n hx hb dX9_on_14 rfl (lv_at hl 0 rfl) ?_
    refine r_get cx hw in_X9 0 (ci := 8) (T := TX9) (N := 13) rfl rfl 2 (by decide) q1171 (fun _ h9 => h9) rfl dX9_on_15 ?_
    refine lv_aload_n hx hb dX9_on_18 rfl (lv_at hl 0 rfl) ?_
    refine r_get cx hw in_X9 0 (ci := 8) (T := TX9) (N := 13) rfl rfl 0 (by decide) q1169 (fun _ h9 => h9) rfl dX9_on_19 ?_
    refine r_det (r_S cx hw (kX9_copies l hl9 g (a 3) (a 1) im s) (va_cwS 2 hts (lw_S q1243 q1244 q94 q1245) rfl rfl rfl (by decide +kernel) ⟨Nat.le_of_ble_eq_true rfl, Nat.le_of_ble_eq_true rfl⟩) [3, 1] rfl rfl rfl hl.1 rfl (Nat.le_of_ble_eq_true rfl) dX9_on_22 ⟨Nat.le_of_ble_eq_true rfl, Nat.le_of_ble_eq_true rfl⟩) cx hw [3, 1] rfl rfl rfl (ws' := WM g a im m im wa L R rf nu hi lm rn pl sd) (rfl) (fun H locs hw => ?_)
    refine W.eq (g2 := F0 m9 25 ls []) rfl ?_
    refine lv_aload_n hx hb dX9_on_25 rfl (lv_at hl 0 rfl) ?_
    refine r_get cx hw in_X9 0 (ci := 8) (T := TX9) (N := 13) rfl rfl 0 (by decide) q1169 (fun _ h9 => h9) rfl dX9_on_26 ?_
    refine lv_iconst (v := 1) hx hb dX9_on_29 (by decide) ?_
    refine r_iald cx hw 1 rfl 1 rfl (by omega) (Nat.le_of_ble_eq_true rfl) dX9_on_30 ?_
    exact r_iret cx hw (⟨_, by rw [hW, ans_0], by rw [hW, rfA_0, sA_0]⟩) (Nat.le_of_ble_eq_true rfl) (Nat.le_of_ble_eq_true rfl) dX9_on_31

set_option maxHeartbeats 4000000 in
set_option maxRecDepth 100000 in
theorem kX9_count (l : Launch) (hl9 : l.stackTraces = false) (g : GG) (a : Nat → Nat) (s m im wa L R rf nu : Nat → Int32) (hi lm rn pl sd : Int32) (hI : InvM s) (w9 : Int32) : MC l yX9_count cX9_count 2 (some .int) 2 44 0 0 g [.ref (a 0), .int w9] (WM g a s m im wa L R rf nu hi lm rn pl sd) (rt (some (.int (vCnt s rf rn lm w9))) (WM g a s m im wa L R rf nu hi lm rn pl sd)) (noX) := by
  by_cases h1 : isInB w9 11 16 = true
  · skip
    obtain ⟨q, hq1, hq2, rfl⟩ : ∃ q : Nat, 11 ≤ q ∧ q ≤ 16 ∧ w9 = nI q := by
      have h9 := h1
      simp only [isInB, Bool.and_eq_true, decide_eq_true_eq] at h9
      obtain ⟨q, hq, rfl⟩ := nI_rng (M := 16) (by decide) (Int32.le_trans (by decide) h9.1) h9.2
      exact ⟨q, (nI_leI (a := 11) (by decide) (by omega)).mp h9.1, hq, rfl⟩
    have eq : tN (nI q) = q := tN_nI (by omega)
    refine MC.of (by decide) (Nat.le_of_ble_eq_true rfl) ?_
    intro p9 e9 s9 m9 args9 below9 meth9 c9 A9 ls cx htab hw hl
    have hx := cx.1
    have hb := cx.2.1
    have hts := cx.2.2.2.2.1
    have hK := cx.2.2.2.2.2.2.2.1
    have hl : lv_has ls 2 [(0, .ref (a 0)), (1, .int (nI q))] := hl
    refine lv_iload_n hx hb dX9_count_0 rfl (lv_at hl 1 rfl) ?_
    refine lv_bipush (v := 11) hx hb dX9_count_1 (by decide) ?_
    refine lv_bipush (v := 16) hx hb dX9_count_3 (by decide) ?_
    refine r_det (r_S cx hw (kX9_isIn l hl9 g (nI q) 11 16) (va_cwS 3 hts (lw_S q1240 q1241 q94 q1242) rfl rfl rfl (by decide +kernel) ⟨Nat.le_of_ble_eq_true rfl, Nat.le_of_ble_eq_true rfl⟩) [] rfl rfl rfl hl.1 rfl (Nat.le_of_ble_eq_true rfl) dX9_count_5 ⟨Nat.le_of_ble_eq_true rfl, Nat.le_of_ble_eq_true rfl⟩) cx hw [] rfl rfl rfl (ws' := WM g a s m im wa L R rf nu hi lm rn pl sd) (rfl) (fun H locs hw => ?_)
    refine W.eq (g2 := F0 m9 8 ls [.int (bI (isInB (nI q) 11 16))]) rfl ?_
    refine lv_if_eq (tgt := 21) hx hb dX9_count_8 (by decide) (fun c_8 => absurd c_8 (by rw [h1]; decide)) (fun c_8 => ?_)
    refine lv_aload_n hx hb dX9_count_11 rfl (lv_at hl 0 rfl) ?_
    refine r_get cx hw in_X9 0 (ci := 8) (T := TX9) (N := 13) rfl rfl 7 (by decide) q1176 (fun _ h9 => h9) rfl dX9_count_12 ?_
    refine lv_iload_n hx hb dX9_count_15 rfl (lv_at hl 1 rfl) ?_
    refine lv_bipush (v := 10) hx hb dX9_count_16 (by decide) ?_
    refine lv_isub hx hb dX9_count_18 ?_
    refine r_topi (x' := nI (q - 10)) (pk_sub (b := 10) (by omega)) ?_
    refine r_iald cx hw 7 rfl (q - 10) rfl (by omega) (Nat.le_of_ble_eq_true rfl) dX9_count_19 ?_
    exact r_iret cx hw (⟨by rw [vCnt, if_pos h1, eq], rfl⟩) (Nat.le_of_ble_eq_true rfl) (Nat.le_of_ble_eq_true rfl) dX9_count_20
  have h2 : isInB w9 11 16 = false := by simpa using h1
  refine MC.of (by decide) (Nat.le_of_ble_eq_true rfl) ?_
  intro p9 e9 s9 m9 args9 below9 meth9 c9 A9 ls cx htab hw hl
  have hx := cx.1
  have hb := cx.2.1
  have hts := cx.2.2.2.2.1
  have hK := cx.2.2.2.2.2.2.2.1
  have hl : lv_has ls 2 [(0, .ref (a 0)), (1, .int w9)] := hl
  refine lv_iload_n hx hb dX9_count_0 rfl (lv_at hl 1 rfl) ?_
  refine lv_bipush (v := 11) hx hb dX9_count_1 (by decide) ?_
  refine lv_bipush (v := 16) hx hb dX9_count_3 (by decide) ?_
  refine r_det (r_S cx hw (kX9_isIn l hl9 g w9 11 16) (va_cwS 3 hts (lw_S q1240 q1241 q94 q1242) rfl rfl rfl (by decide +kernel) ⟨Nat.le_of_ble_eq_true rfl, Nat.le_of_ble_eq_true rfl⟩) [] rfl rfl rfl hl.1 rfl (Nat.le_of_ble_eq_true rfl) dX9_count_5 ⟨Nat.le_of_ble_eq_true rfl, Nat.le_of_ble_eq_true rfl⟩) cx hw [] rfl rfl rfl (ws' := WM g a s m im wa L R rf nu hi lm rn pl sd) (rfl) (fun H locs hw => ?_)
  refine W.eq (g2 := F0 m9 8 ls [.int (bI (isInB w9 11 16))]) rfl ?_
  refine lv_if_eq (tgt := 21) hx hb dX9_count_8 (by decide) (fun c_8 => ?_) (fun c_8 => absurd c_8 (by rw [h2]; decide))
  refine lv_iload_n hx hb dX9_count_21 rfl (lv_at hl 1 rfl) ?_
  by_cases t_22_0 : w9 = 0
  · skip
    refine lv_tableIn (tgt := 68) hx hb dX9_count_22 (by rw [t_22_0]; decide) (by rw [t_22_0]; decide) (by rw [t_22_0]; rfl) (by decide) ?_
    refine lv_aload_n hx hb dX9_count_68 rfl (lv_at hl 0 rfl) ?_
    refine r_get cx hw in_X9 0 (ci := 8) (T := TX9) (N := 13) rfl rfl 0 (by decide) q1169 (fun _ h9 => h9) rfl dX9_count_69 ?_
    refine lv_iload_n hx hb dX9_count_72 rfl (lv_at hl 1 rfl) ?_
    refine r_topi (x' := nI 0) (by rw [t_22_0]; rfl) ?_
    refine r_iald cx hw 1 rfl 0 rfl (by omega) (Nat.le_of_ble_eq_true rfl) dX9_count_73 ?_
    exact r_iret cx hw (⟨by rw [vCnt, if_neg h1, if_pos t_22_0] <;> rw [t_22_0] <;> rfl, rfl⟩) (Nat.le_of_ble_eq_true rfl) (Nat.le_of_ble_eq_true rfl) dX9_count_74
  by_cases t_22_1 : w9 = 1
  · skip
    refine lv_tableIn (tgt := 68) hx hb dX9_count_22 (by rw [t_22_1]; decide) (by rw [t_22_1]; decide) (by rw [t_22_1]; rfl) (by decide) ?_
    refine lv_aload_n hx hb dX9_count_68 rfl (lv_at hl 0 rfl) ?_
    refine r_get cx hw in_X9 0 (ci := 8) (T := TX9) (N := 13) rfl rfl 0 (by decide) q1169 (fun _ h9 => h9) rfl dX9_count_69 ?_
    refine lv_iload_n hx hb dX9_count_72 rfl (lv_at hl 1 rfl) ?_
    refine r_topi (x' := nI 1) (by rw [t_22_1]; rfl) ?_
    refine r_iald cx hw 1 rfl 1 rfl (by omega) (Nat.le_of_ble_eq_true rfl) dX9_count_73 ?_
    exact r_iret cx hw (⟨by rw [vCnt, if_neg h1, if_neg t_22_0, if_pos t_22_1] <;> rw [t_22_1] <;> rfl, rfl⟩) (Nat.le_of_ble_eq_true rfl) (Nat.le_of_ble_eq_true rfl) dX9_count_74
  by_cases t_22_2 : w9 = 2
  · skip
    refine lv_tableIn (tgt := 68) hx hb dX9_count_22 (by rw [t_22_2]; decide) (by rw [t_22_2]; decide) (by rw [t_22_2]; rfl) (by decide) ?_
    refine lv_aload_n hx hb dX9_count_68 rfl (lv_at hl 0 rfl) ?_
    refine r_get cx hw in_X9 0 (ci := 8) (T := TX9) (N := 13) rfl rfl 0 (by decide) q1169 (fun _ h9 => h9) rfl dX9_count_69 ?_
    refine lv_iload_n hx hb dX9_count_72 rfl (lv_at hl 1 rfl) ?_
    refine r_topi (x' := nI 2) (by rw [t_22_2]; rfl) ?_
    refine r_iald cx hw 1 rfl 2 rfl (by omega) (Nat.le_of_ble_eq_true rfl) dX9_count_73 ?_
    exact r_iret cx hw (⟨by rw [vCnt, if_neg h1, if_neg t_22_0, if_neg t_22_1, if_pos t_22_2] <;> rw [t_22_2] <;> rfl, rfl⟩) (Nat.le_of_ble_eq_true rfl) (Nat.le_of_ble_eq_true rfl) dX9_count_74
  by_cases t_22_3 : w9 = 3
  · skip
    refine lv_tableIn (tgt := 68) hx hb dX9_count_22 (by rw [t_22_3]; decide) (by rw [t_22_3]; decide) (by rw [t_22_3]; rfl) (by decide) ?_
    refine lv_aload_n hx hb dX9_count_68 rfl (lv_at hl 0 rfl) ?_
    refine r_get cx hw in_X9 0 (ci := 8) (T := TX9) (N := 13) rfl rfl 0 (by decide) q1169 (fun _ h9 => h9) rfl dX9_count_69 ?_
    refine lv_iload_n hx hb dX9_count_72 rfl (lv_at hl 1 rfl) ?_
    refine r_topi (x' := nI 3) (by rw [t_22_3]; rfl) ?_
    refine r_iald cx hw 1 rfl 3 rfl (by omega) (Nat.le_of_ble_eq_true rfl) dX9_count_73 ?_
    exact r_iret cx hw (⟨by rw [vCnt, if_neg h1, if_neg t_22_0, if_neg t_22_1, if_neg t_22_2, if_pos t_22_3] <;> rw [t_22_3] <;> rfl, rfl⟩) (Nat.le_of_ble_eq_true rfl) (Nat.le_of_ble_eq_true rfl) dX9_count_74
  by_cases t_22_4 : w9 = 4
  · skip
    refine lv_tableIn (tgt := 75) hx hb dX9_count_22 (by rw [t_22_4]; decide) (by rw [t_22_4]; decide) (by rw [t_22_4]; rfl) (by decide) ?_
    refine lv_aload_n hx hb dX9_count_75 rfl (lv_at hl 0 rfl) ?_
    refine r_get cx hw in_X9 0 (ci := 8) (T := TX9) (N := 13) rfl rfl 0 (by decide) q1169 (fun _ h9 => h9) rfl dX9_count_76 ?_
    refine lv_iconst (v := 4) hx hb dX9_count_79 (by decide) ?_
    refine r_det (r_S cx hw (kX9_flagged l hl9 g (a 1) s hI 4 (by omega)) (va_cwS 2 hts (lw_S q1296 q1297 q94 q1298) rfl rfl rfl (by decide +kernel) ⟨Nat.le_of_ble_eq_true rfl, Nat.le_of_ble_eq_true rfl⟩) [1] rfl rfl rfl hl.1 rfl (Nat.le_of_ble_eq_true rfl) dX9_count_80 ⟨Nat.le_of_ble_eq_true rfl, Nat.le_of_ble_eq_true rfl⟩) cx hw [1] rfl rfl rfl (ws' := WM g a s m im wa L R rf nu hi lm rn pl sd) (rfl) (fun H locs hw => ?_)
    refine W.eq (g2 := F0 m9 83 ls [.int (flgF s 4)]) rfl ?_
    exact r_iret cx hw (⟨by rw [vCnt, if_neg h1, if_neg t_22_0, if_neg t_22_1, if_neg t_22_2, if_neg t_22_3, if_pos t_22_4], rfl⟩) (Nat.le_of_ble_eq_true rfl) (Nat.le_of_ble_eq_true rfl) dX9_count_83
  by_cases t_22_5 : w9 = 5
  · skip
    refine lv_tableIn (tgt := 84) hx hb dX9_count_22 (by rw [t_22_5]; decide) (by rw [t_22_5]; decide) (by rw [t_22_5]; rfl) (by decide) ?_
    refine lv_aload_n hx hb dX9_count_84 rfl (lv_at hl 0 rfl) ?_
    refine r_get cx hw in_X9 0 (ci := 8) (T := TX9) (N := 13) rfl rfl 0 (by decide) q1169 (fun _ h9 => h9) rfl dX9_count_85 ?_
    refine r_det (r_S cx hw (kX9_allHave l hl9 g (a 1) s hI) (va_cwS 1 hts (lw_S q1357 q1358 q94 q1359) rfl rfl rfl (by decide +kernel) ⟨Nat.le_of_ble_eq_true rfl, Nat.le_of_ble_eq_true rfl⟩) [1] rfl rfl rfl hl.1 rfl (Nat.le_of_ble_eq_true rfl) dX9_count_88 ⟨Nat.le_of_ble_eq_true rfl, Nat.le_of_ble_eq_true rfl⟩) cx hw [1] rfl rfl rfl (ws' := WM g a s m im wa L R rf nu hi lm rn pl sd) (rfl) (fun H locs hw => ?_)
    refine W.eq (g2 := F0 m9 91 ls [.int (allF s)]) rfl ?_
    exact r_iret cx hw (⟨by rw [vCnt, if_neg h1, if_neg t_22_0, if_neg t_22_1, if_neg t_22_2, if_neg t_22_3, if_neg t_22_4, if_pos t_22_5], rfl⟩) (Nat.le_of_ble_eq_true rfl) (Nat.le_of_ble_eq_true rfl) dX9_count_91
  by_cases t_22_6 : w9 = 6
  · skip
    refine lv_tableIn (tgt := 92) hx hb dX9_count_22 (by rw [t_22_6]; decide) (by rw [t_22_6]; decide) (by rw [t_22_6]; rfl) (by decide) ?_
    refine lv_aload_n hx hb dX9_count_92 rfl (lv_at hl 0 rfl) ?_
    refine r_get cx hw in_X9 0 (ci := 8) (T := TX9) (N := 13) rfl rfl 9 (by decide) q1178 (fun _ h9 => h9) rfl dX9_count_93 ?_
    exact r_iret cx hw (⟨by rw [vCnt, if_neg h1, if_neg t_22_0, if_neg t_22_1, if_neg t_22_2, if_neg t_22_3, if_neg t_22_4, if_neg t_22_5, if_pos t_22_6], rfl⟩) (Nat.le_of_ble_eq_true rfl) (Nat.le_of_ble_eq_true rfl) dX9_count_96
  by_cases t_22_7 : w9 = 7
  · skip
    refine lv_tableIn (tgt := 97) hx hb dX9_count_22 (by rw [t_22_7]; decide) (by rw [t_22_7]; decide) (by rw [t_22_7]; rfl) (by decide) ?_
    refine lv_aload_n hx hb dX9_count_97 rfl (lv_at hl 0 rfl) ?_
    refine r_get cx hw in_X9 0 (ci := 8) (T := TX9) (N := 13) rfl rfl 8 (by decide) q1177 (fun _ h9 => h9) rfl dX9_count_98 ?_
    exact r_iret cx hw (⟨by rw [vCnt, if_neg h1, if_neg t_22_0, if_neg t_22_1, if_neg t_22_2, if_neg t_22_3, if_neg t_22_4, if_neg t_22_5, if_neg t_22_6, if_pos t_22_7], rfl⟩) (Nat.le_of_ble_eq_true rfl) (Nat.le_of_ble_eq_true rfl) dX9_count_101
  refine lv_tableOut (tgt := 102) hx hb dX9_count_22 (by have : ¬ (w9).toInt = 0 := lv_neT t_22_0 rfl; have : ¬ (w9).toInt = 1 := lv_neT t_22_1 rfl; have : ¬ (w9).toInt = 2 := lv_neT t_22_2 rfl; have : ¬ (w9).toInt = 3 := lv_neT t_22_3 rfl; have : ¬ (w9).toInt = 4 := lv_neT t_22_4 rfl; have : ¬ (w9).toInt = 5 := lv_neT t_22_5 rfl; have : ¬ (w9).toInt = 6 := lv_neT t_22_6 rfl; have : ¬ (w9).toInt = 7 := lv_neT t_22_7 rfl; omega) (by decide) ?_
  refine lv_bipush (v := (-9)) hx hb dX9_count_102 (by decide) ?_
  exact r_iret cx hw (⟨by rw [vCnt, if_neg h1, if_neg t_22_0, if_neg t_22_1, if_neg t_22_2, if_neg t_22_3, if_neg t_22_4, if_neg t_22_5, if_neg t_22_6, if_neg t_22_7], rfl⟩) (Nat.le_of_ble_eq_true rfl) (Nat.le_of_ble_eq_true rfl) dX9_count_104
