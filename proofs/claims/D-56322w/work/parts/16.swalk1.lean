set_option maxRecDepth 100000
set_option linter.unusedVariables false
def f_J0_init (Ev : rb_E) (h : AH) (n : Nat) (o : Nat) (x1 : Int32) : Option (Unit × AH × Nat × Nat) := (if x1 < 0 ∨ 65536 < x1.toNatClampNeg then none else (ad 1 x1.toNatClampNeg (rb_lt (va_up h n (some (.inl (eA Ev 1, x1.toNatClampNeg, .inl (fun _ => 0))))) fun h_6 => ((hp_put h_6 o 13 0 (.ref n)).bind fun h_7 => ((hp_put h_7 o 13 1 (.int 0)).bind fun h_9 => (some ((), h_9, 0, 0)))))))
abbrev rm_J0_init (k s : Nat) : Room := { frames := 1, cells := k, slots := s, locals := 40 }
set_option maxHeartbeats 4000000 in
theorem ct_J0_init (Ev : rb_E) (h : AH) (n : Nat) (o : Nat) (x1 : Int32) (r : Unit) (h' : AH) (k s : Nat) (hf : f_J0_init Ev h n o x1 = some (r, h', k, s)) : Ct Ev yJ0_init (ws_ yJ0_init cJ0_init 2 none) (rm_J0_init k s) [.ref o, .int x1] h n (pX (.inl (none)) h' (n + k)) := by
  rw [f_J0_init] at hf
  refine Ct.of rfl (Nat.le_of_ble_eq_true rfl) fun X C hnm => ?_
  have C : Cx Ev X RJ0 cJ0_init 2 none [] := C
  show Wa Ev X (rm_J0_init k s) 2 h n 0 0 (rb_MQ Ev X (rm_J0_init k s) (pX (.inl (none)) h' (n + k))) 0 [(0, .ref o), (1, .int x1)] []
  have hb : Bd (n + k) k s n 0 0 k s := ⟨rfl, Nat.le_of_eq (Nat.zero_add _), Nat.le_of_eq (Nat.zero_add _)⟩
  refine rb_aload_n C dJ0_init_0 rfl 0 rfl ?_
  refine rb_objInit C q139 q123 q124 dJ0_init_1 (Nat.le_of_ble_eq_true rfl) (Nat.le_of_ble_eq_true rfl) ?_
  refine rb_gets (v := .int 1) C q140 q141 (C.pf.2.2.1.1) dJ0_init_4 ?_
  refine rb_if_eq (tgt := 25) C dJ0_init_7 (by decide) (fun c => absurd c (by decide)) (fun _ => ?_)
  refine rb_aload_n C dJ0_init_10 rfl 0 rfl ?_
  refine rb_iload_n C dJ0_init_11 rfl 1 rfl ?_
  by_cases c_g_1 : x1 < 0 ∨ 65536 < x1.toNatClampNeg
  · exact absurd ((if_pos c_g_1).symm.trans hf) (fun z => by cases z)
  have hf := (if_neg c_g_1).symm.trans hf
  obtain ⟨a_4, b_5, hf, ea_2, eb_3⟩ := ad_at hf
  refine rb_hnewa (atype := .byte) C 1 rfl rfl rfl q163 c_g_1 (x1.toNatClampNeg, .inl (fun _ => 0)) (fun _ => rfl) (Bd.c1 hb ea_2) (Bd.s1 hb eb_3) dJ0_init_12 ?_
  have hb := Bd.ade hb ea_2 eb_3
  obtain ⟨h_6, e_h_6⟩ : ∃ z, z = (va_up h n (some (.inl (eA Ev 1, x1.toNatClampNeg, .inl (fun _ => 0))))) := ⟨_, rfl⟩
  rw [← e_h_6]
  have hf := rb_let hf e_h_6
  obtain ⟨h_7, e_8, hf⟩ := rb_bd hf
  refine rb_hput C fw_J0_15_J1 e_8 rfl rfl dJ0_init_14 ?_
  refine rb_aload_n C dJ0_init_17 rfl 0 rfl ?_
  refine rb_iconst (v := 0) C dJ0_init_18 rfl ?_
  obtain ⟨h_9, e_10, hf⟩ := rb_bd hf
  refine rb_hput C fw_J0_22_J1 e_10 rfl rfl dJ0_init_19 ?_
  refine rb_goto (tgt := 38) C dJ0_init_22 (by decide) ?_
  cases hf
  exact rb_vret C rfl hb.e.2.1 hb.e.2.2 dJ0_init_38 ⟨rfl, rfl, hb.e.1⟩
def f_J1_init (Ev : rb_E) (h : AH) (n : Nat) (o : Nat) : Option (Unit × AH × Nat × Nat) := ((f_J0_init Ev h n o 16).bind fun (r_2, h_3, k_4, s_5) => (ad k_4 s_5 (some ((), h_3, 0, 0))))
abbrev rm_J1_init (k s : Nat) : Room := { frames := 2, cells := k, slots := s, locals := 61 }
set_option maxHeartbeats 4000000 in
theorem ct_J1_init (Ev : rb_E) (h : AH) (n : Nat) (o : Nat) (r : Unit) (h' : AH) (k s : Nat) (hf : f_J1_init Ev h n o = some (r, h', k, s)) : Ct Ev yJ1_init (ws_ yJ1_init cJ1_init 1 none) (rm_J1_init k s) [.ref o] h n (pX (.inl (none)) h' (n + k)) := by
  rw [f_J1_init] at hf
  refine Ct.of rfl (Nat.le_of_ble_eq_true rfl) fun X C hnm => ?_
  have C : Cx Ev X RJ1 cJ1_init 1 none [] := C
  show Wa Ev X (rm_J1_init k s) 1 h n 0 0 (rb_MQ Ev X (rm_J1_init k s) (pX (.inl (none)) h' (n + k))) 0 [(0, .ref o)] []
  have hb : Bd (n + k) k s n 0 0 k s := ⟨rfl, Nat.le_of_eq (Nat.zero_add _), Nat.le_of_eq (Nat.zero_add _)⟩
  refine rb_aload_n C dJ1_init_0 rfl 0 rfl ?_
  refine rb_bipush (v := 16) C dJ1_init_1 rfl ?_
  obtain ⟨⟨r_2, h_3, k_4, s_5⟩, e_6, hf⟩ := rb_bd hf
  obtain ⟨a_9, b_10, hf, ea_7, eb_8⟩ := ad_at hf
  refine rb_callI (As := [.int 16]) (rest := []) C mi_J0_init si_J1_1 (ct_J0_init Ev h n o 16 r_2 _ _ _ e_6) rfl rfl (Nat.le_of_ble_eq_true rfl) ⟨Nat.le_of_ble_eq_true rfl, Nat.le_of_ble_eq_true rfl, Bd.c1 hb ea_7, Bd.s1 hb eb_8⟩ dJ1_init_3 rb_xX (rb_kX (rb_w (kc := (0 + k_4)) (ks := (0 + s_5)) rfl rfl ?_))
  have hb := Bd.ade hb ea_7 eb_8
  cases hf
  exact rb_vret C rfl hb.e.2.1 hb.e.2.2 dJ1_init_6 ⟨rfl, rfl, hb.e.1⟩
def f_X2_init (Ev : rb_E) (h : AH) (n : Nat) (o : Nat) : Option (Unit × AH × Nat × Nat) := (ad 1 4 (rb_lt (va_up h n (some (.inr (13, [.null, .int 0, .int 0, .int 0])))) fun h_5 => ((f_J1_init Ev h_5 (n + 1) n).bind fun (r_7, h_8, k_9, s_10) => (ad k_9 s_10 ((hp_put h_8 o 1 0 (.ref n)).bind fun h_16 => (if (7 : Int32) < 0 ∨ 65536 < (7 : Int32).toNatClampNeg then none else (ad 1 (7 : Int32).toNatClampNeg (rb_lt (va_up h_16 ((n + 1) + k_9) (some (.inl (eA Ev 0, (7 : Int32).toNatClampNeg, .inl (fun _ => 0))))) fun h_23 => ((hp_is Ev h_23 ((n + 1) + k_9) 0 0).bind fun h_24 => ((hp_is Ev h_24 ((n + 1) + k_9) 1 0).bind fun h_26 => ((hp_is Ev h_26 ((n + 1) + k_9) 2 2).bind fun h_28 => ((hp_is Ev h_28 ((n + 1) + k_9) 3 2).bind fun h_30 => ((hp_is Ev h_30 ((n + 1) + k_9) 4 4).bind fun h_32 => ((hp_is Ev h_32 ((n + 1) + k_9) 5 4).bind fun h_34 => ((hp_is Ev h_34 ((n + 1) + k_9) 6 3).bind fun h_36 => ((hp_put h_36 o 1 1 (.ref ((n + 1) + k_9))).bind fun h_38 => (if (6 : Int32) < 0 ∨ 65536 < (6 : Int32).toNatClampNeg then none else (ad 1 (6 : Int32).toNatClampNeg (rb_lt (va_up h_38 (((n + 1) + k_9) + 1) (some (.inl (eA Ev 7, (6 : Int32).toNatClampNeg, aQ (fun _ => none))))) fun h_45 => ((hp_sp Ev "RainbowOperators$Meaning" "SUM").bind fun v_46 => ((hp_en Ev v_46).bind fun u_49 => ((hp_as Ev h_45 7 (((n + 1) + k_9) + 1) 0 (some v_46)).bind fun h_48 => ((hp_sp Ev "RainbowOperators$Meaning" "DIFFERENCE").bind fun v_52 => ((hp_en Ev v_52).bind fun u_55 => ((hp_as Ev h_48 7 (((n + 1) + k_9) + 1) 1 (some v_52)).bind fun h_54 => ((hp_sp Ev "RainbowOperators$Meaning" "PRODUCT").bind fun v_58 => ((hp_en Ev v_58).bind fun u_61 => ((hp_as Ev h_54 7 (((n + 1) + k_9) + 1) 2 (some v_58)).bind fun h_60 => ((hp_sp Ev "RainbowOperators$Meaning" "LESSER").bind fun v_64 => ((hp_en Ev v_64).bind fun u_67 => ((hp_as Ev h_60 7 (((n + 1) + k_9) + 1) 3 (some v_64)).bind fun h_66 => ((hp_sp Ev "RainbowOperators$Meaning" "GREATER").bind fun v_70 => ((hp_en Ev v_70).bind fun u_73 => ((hp_as Ev h_66 7 (((n + 1) + k_9) + 1) 4 (some v_70)).bind fun h_72 => ((hp_sp Ev "RainbowOperators$Meaning" "JOINT").bind fun v_76 => ((hp_en Ev v_76).bind fun u_79 => ((hp_as Ev h_72 7 (((n + 1) + k_9) + 1) 5 (some v_76)).bind fun h_78 => ((hp_put h_78 o 1 2 (.ref (((n + 1) + k_9) + 1))).bind fun h_82 => (if (7 : Int32) < 0 ∨ 65536 < (7 : Int32).toNatClampNeg then none else (ad 1 (7 : Int32).toNatClampNeg (rb_lt (va_up h_82 ((((n + 1) + k_9) + 1) + 1) (some (.inl (eA Ev 2, (7 : Int32).toNatClampNeg, .inl (fun _ => 0))))) fun h_89 => ((hp_zs Ev h_89 ((((n + 1) + k_9) + 1) + 1) 0 0).bind fun h_90 => ((hp_zs Ev h_90 ((((n + 1) + k_9) + 1) + 1) 1 0).bind fun h_92 => ((hp_zs Ev h_92 ((((n + 1) + k_9) + 1) + 1) 2 0).bind fun h_94 => ((hp_zs Ev h_94 ((((n + 1) + k_9) + 1) + 1) 3 0).bind fun h_96 => ((hp_zs Ev h_96 ((((n + 1) + k_9) + 1) + 1) 4 1).bind fun h_98 => ((hp_zs Ev h_98 ((((n + 1) + k_9) + 1) + 1) 5 1).bind fun h_100 => ((hp_zs Ev h_100 ((((n + 1) + k_9) + 1) + 1) 6 1).bind fun h_102 => ((hp_put h_102 o 1 3 (.ref ((((n + 1) + k_9) + 1) + 1))).bind fun h_104 => (if (5 : Int32) < 0 ∨ 65536 < (5 : Int32).toNatClampNeg then none else (ad 1 (5 : Int32).toNatClampNeg (rb_lt (va_up h_104 (((((n + 1) + k_9) + 1) + 1) + 1) (some (.inl (eA Ev 0, (5 : Int32).toNatClampNeg, .inl (fun _ => 0))))) fun h_111 => ((hp_put h_111 o 1 4 (.ref (((((n + 1) + k_9) + 1) + 1) + 1))).bind fun h_112 => (some ((), h_112, 0, 0)))))))))))))))))))))))))))))))))))))))))))))))))))))))
abbrev rm_X2_init (k s : Nat) : Room := { frames := 3, cells := k, slots := s, locals := 81 }
set_option maxHeartbeats 4000000 in
theorem ct_X2_init (Ev : rb_E) (h : AH) (n : Nat) (o : Nat) (r : Unit) (h' : AH) (k s : Nat) (hf : f_X2_init Ev h n o = some (r, h', k, s)) : Ct Ev yX2_init (ws_ yX2_init cX2_init 1 none) (rm_X2_init k s) [.ref o] h n (pX (.inl (none)) h' (n + k)) := by
  rw [f_X2_init] at hf
  refine Ct.of rfl (Nat.le_of_ble_eq_true rfl) fun X C hnm => ?_
  have C : Cx Ev X RX2 cX2_init 1 none [] := C
  show Wa Ev X (rm_X2_init k s) 1 h n 0 0 (rb_MQ Ev X (rm_X2_init k s) (pX (.inl (none)) h' (n + k))) 0 [(0, .ref o)] []
  have hb : Bd (n + k) k s n 0 0 k s := ⟨rfl, Nat.le_of_eq (Nat.zero_add _), Nat.le_of_eq (Nat.zero_add _)⟩
  refine rb_aload_n C dX2_init_0 rfl 0 rfl ?_
  refine rb_objInit C q130 q123 q124 dX2_init_1 (Nat.le_of_ble_eq_true rfl) (Nat.le_of_ble_eq_true rfl) ?_
  refine rb_aload_n C dX2_init_4 rfl 0 rfl ?_
  obtain ⟨a_3, b_4, hf, ea_1, eb_2⟩ := ad_at hf
  refine rb_hnew C ck_J1 q131 q132 q72 [.null, .int 0, .int 0, .int 0] rfl (Bd.c1 hb ea_1) (Bd.s1 hb eb_2) dX2_init_5 ?_
  have hb := Bd.ade hb ea_1 eb_2
  obtain ⟨h_5, e_h_5⟩ : ∃ z, z = (va_up h n (some (.inr (13, [.null, .int 0, .int 0, .int 0])))) := ⟨_, rfl⟩
  rw [← e_h_5]
  have hf := rb_let hf e_h_5
  refine rb_dup C dX2_init_8 rfl ?_
  obtain ⟨⟨r_7, h_8, k_9, s_10⟩, e_11, hf⟩ := rb_bd hf
  obtain ⟨a_14, b_15, hf, ea_12, eb_13⟩ := ad_at hf
  refine rb_callI (As := []) (rest := [.ref n, .ref o]) C mi_J1_init si_X2_11 (ct_J1_init Ev h_5 (n + 1) n r_7 _ _ _ e_11) rfl rfl (Nat.le_of_ble_eq_true rfl) ⟨Nat.le_of_ble_eq_true rfl, Nat.le_of_ble_eq_true rfl, Bd.c1 hb ea_12, Bd.s1 hb eb_13⟩ dX2_init_9 rb_xX (rb_kX (rb_w (kc := ((0 + 1) + k_9)) (ks := ((0 + 4) + s_10)) rfl rfl ?_))
  have hb := Bd.ade hb ea_12 eb_13
  obtain ⟨h_16, e_17, hf⟩ := rb_bd hf
  refine rb_hputF C ff_X2_12_X2 hnm e_17 rfl rfl dX2_init_12 ?_
  refine rb_aload_n C dX2_init_15 rfl 0 rfl ?_
  refine rb_bipush (v := 7) C dX2_init_16 rfl ?_
  by_cases c_g_18 : (7 : Int32) < 0 ∨ 65536 < (7 : Int32).toNatClampNeg
  · exact absurd ((if_pos c_g_18).symm.trans hf) (fun z => by cases z)
  have hf := (if_neg c_g_18).symm.trans hf
  obtain ⟨a_21, b_22, hf, ea_19, eb_20⟩ := ad_at hf
  refine rb_hnewa (atype := .int) C 0 rfl rfl rfl q202 c_g_18 ((7 : Int32).toNatClampNeg, .inl (fun _ => 0)) (fun _ => rfl) (Bd.c1 hb ea_19) (Bd.s1 hb eb_20) dX2_init_18 ?_
  have hb := Bd.ade hb ea_19 eb_20
  obtain ⟨h_23, e_h_23⟩ : ∃ z, z = (va_up h_16 ((n + 1) + k_9) (some (.inl (eA Ev 0, (7 : Int32).toNatClampNeg, .inl (fun _ => 0))))) := ⟨_, rfl⟩
  rw [← e_h_23]
  have hf := rb_let hf e_h_23
  refine rb_dup C dX2_init_20 rfl ?_
  refine rb_iconst (v := 0) C dX2_init_21 rfl ?_
  refine rb_iconst (v := 0) C dX2_init_22 rfl ?_
  obtain ⟨h_24, e_25, hf⟩ := rb_bd hf
  refine rb_his C e_25 dX2_init_23 ?_
  refine rb_dup C dX2_init_24 rfl ?_
  refine rb_iconst (v := 1) C dX2_init_25 rfl ?_
  refine rb_iconst (v := 0) C dX2_init_26 rfl ?_
  obtain ⟨h_26, e_27, hf⟩ := rb_bd hf
  refine rb_his C e_27 dX2_init_27 ?_
  refine rb_dup C dX2_init_28 rfl ?_
  refine rb_iconst (v := 2) C dX2_init_29 rfl ?_
  refine rb_iconst (v := 2) C dX2_init_30 rfl ?_
  obtain ⟨h_28, e_29, hf⟩ := rb_bd hf
  refine rb_his C e_29 dX2_init_31 ?_
  refine rb_dup C dX2_init_32 rfl ?_
  refine rb_iconst (v := 3) C dX2_init_33 rfl ?_
  refine rb_iconst (v := 2) C dX2_init_34 rfl ?_
  obtain ⟨h_30, e_31, hf⟩ := rb_bd hf
  refine rb_his C e_31 dX2_init_35 ?_
  refine rb_dup C dX2_init_36 rfl ?_
  refine rb_iconst (v := 4) C dX2_init_37 rfl ?_
  refine rb_iconst (v := 4) C dX2_init_38 rfl ?_
  obtain ⟨h_32, e_33, hf⟩ := rb_bd hf
  refine rb_his C e_33 dX2_init_39 ?_
  refine rb_dup C dX2_init_40 rfl ?_
  refine rb_iconst (v := 5) C dX2_init_41 rfl ?_
  refine rb_iconst (v := 4) C dX2_init_42 rfl ?_
  obtain ⟨h_34, e_35, hf⟩ := rb_bd hf
  refine rb_his C e_35 dX2_init_43 ?_
  refine rb_dup C dX2_init_44 rfl ?_
  refine rb_bipush (v := 6) C dX2_init_45 rfl ?_
  refine rb_iconst (v := 3) C dX2_init_47 rfl ?_
  obtain ⟨h_36, e_37, hf⟩ := rb_bd hf
  refine rb_his C e_37 dX2_init_48 ?_
  obtain ⟨h_38, e_39, hf⟩ := rb_bd hf
  refine rb_hputF C ff_X2_18_X2 hnm e_39 rfl rfl dX2_init_49 ?_
  refine rb_aload_n C dX2_init_52 rfl 0 rfl ?_
  refine rb_bipush (v := 6) C dX2_init_53 rfl ?_
  by_cases c_g_40 : (6 : Int32) < 0 ∨ 65536 < (6 : Int32).toNatClampNeg
  · exact absurd ((if_pos c_g_40).symm.trans hf) (fun z => by cases z)
  have hf := (if_neg c_g_40).symm.trans hf
  obtain ⟨a_43, b_44, hf, ea_41, eb_42⟩ := ad_at hf
  refine rb_hnewq C 7 rfl q164 q165 c_g_40 (Bd.c1 hb ea_41) (Bd.s1 hb eb_42) dX2_init_55 ?_
  have hb := Bd.ade hb ea_41 eb_42
  obtain ⟨h_45, e_h_45⟩ : ∃ z, z = (va_up h_38 (((n + 1) + k_9) + 1) (some (.inl (eA Ev 7, (6 : Int32).toNatClampNeg, aQ (fun _ => none))))) := ⟨_, rfl⟩
  rw [← e_h_45]
  have hf := rb_let hf e_h_45
  refine rb_dup C dX2_init_58 rfl ?_
  refine rb_iconst (v := 0) C dX2_init_59 rfl ?_
  obtain ⟨v_46, e_47, hf⟩ := rb_bd hf
  refine rb_hsp C q166 q167 e_47 dX2_init_60 ?_
  obtain ⟨u_49, e_50, hf⟩ := rb_bd hf
  obtain ⟨h_48, e_51, hf⟩ := rb_bd hf
  refine rb_hasE C 7 rfl en_ok e_50 e_51 dX2_init_63 ?_
  refine rb_dup C dX2_init_64 rfl ?_
  refine rb_iconst (v := 1) C dX2_init_65 rfl ?_
  obtain ⟨v_52, e_53, hf⟩ := rb_bd hf
  refine rb_hsp C q168 q169 e_53 dX2_init_66 ?_
  obtain ⟨u_55, e_56, hf⟩ := rb_bd hf
  obtain ⟨h_54, e_57, hf⟩ := rb_bd hf
  refine rb_hasE C 7 rfl en_ok e_56 e_57 dX2_init_69 ?_
  refine rb_dup C dX2_init_70 rfl ?_
  refine rb_iconst (v := 2) C dX2_init_71 rfl ?_
  obtain ⟨v_58, e_59, hf⟩ := rb_bd hf
  refine rb_hsp C q170 q171 e_59 dX2_init_72 ?_
  obtain ⟨u_61, e_62, hf⟩ := rb_bd hf
  obtain ⟨h_60, e_63, hf⟩ := rb_bd hf
  refine rb_hasE C 7 rfl en_ok e_62 e_63 dX2_init_75 ?_
  refine rb_dup C dX2_init_76 rfl ?_
  refine rb_iconst (v := 3) C dX2_init_77 rfl ?_
  obtain ⟨v_64, e_65, hf⟩ := rb_bd hf
  refine rb_hsp C q172 q173 e_65 dX2_init_78 ?_
  obtain ⟨u_67, e_68, hf⟩ := rb_bd hf
  obtain ⟨h_66, e_69, hf⟩ := rb_bd hf
  refine rb_hasE C 7 rfl en_ok e_68 e_69 dX2_init_81 ?_
  refine rb_dup C dX2_init_82 rfl ?_
  refine rb_iconst (v := 4) C dX2_init_83 rfl ?_
  obtain ⟨v_70, e_71, hf⟩ := rb_bd hf
  refine rb_hsp C q174 q175 e_71 dX2_init_84 ?_
  obtain ⟨u_73, e_74, hf⟩ := rb_bd hf
  obtain ⟨h_72, e_75, hf⟩ := rb_bd hf
  refine rb_hasE C 7 rfl en_ok e_74 e_75 dX2_init_87 ?_
  refine rb_dup C dX2_init_88 rfl ?_
  refine rb_iconst (v := 5) C dX2_init_89 rfl ?_
  obtain ⟨v_76, e_77, hf⟩ := rb_bd hf
  refine rb_hsp C q176 q177 e_77 dX2_init_90 ?_
  obtain ⟨u_79, e_80, hf⟩ := rb_bd hf
  obtain ⟨h_78, e_81, hf⟩ := rb_bd hf
  refine rb_hasE C 7 rfl en_ok e_80 e_81 dX2_init_93 ?_
  obtain ⟨h_82, e_83, hf⟩ := rb_bd hf
  refine rb_hputF C ff_X2_43_X2 hnm e_83 rfl rfl dX2_init_94 ?_
  refine rb_aload_n C dX2_init_97 rfl 0 rfl ?_
  refine rb_bipush (v := 7) C dX2_init_98 rfl ?_
  by_cases c_g_84 : (7 : Int32) < 0 ∨ 65536 < (7 : Int32).toNatClampNeg
  · exact absurd ((if_pos c_g_84).symm.trans hf) (fun z => by cases z)
  have hf := (if_neg c_g_84).symm.trans hf
  obtain ⟨a_87, b_88, hf, ea_85, eb_86⟩ := ad_at hf
  refine rb_hnewa (atype := .boolean) C 2 rfl rfl rfl q203 c_g_84 ((7 : Int32).toNatClampNeg, .inl (fun _ => 0)) (fun _ => rfl) (Bd.c1 hb ea_85) (Bd.s1 hb eb_86) dX2_init_100 ?_
  have hb := Bd.ade hb ea_85 eb_86
  obtain ⟨h_89, e_h_89⟩ : ∃ z, z = (va_up h_82 ((((n + 1) + k_9) + 1) + 1) (some (.inl (eA Ev 2, (7 : Int32).toNatClampNeg, .inl (fun _ => 0))))) := ⟨_, rfl⟩
  rw [← e_h_89]
  have hf := rb_let hf e_h_89
  refine rb_dup C dX2_init_102 rfl ?_
  refine rb_iconst (v := 0) C dX2_init_103 rfl ?_
  refine rb_iconst (v := 0) C dX2_init_104 rfl ?_
  obtain ⟨h_90, e_91, hf⟩ := rb_bd hf
  refine rb_hzs C e_91 dX2_init_105 ?_
  refine rb_dup C dX2_init_106 rfl ?_
  refine rb_iconst (v := 1) C dX2_init_107 rfl ?_
  refine rb_iconst (v := 0) C dX2_init_108 rfl ?_
  obtain ⟨h_92, e_93, hf⟩ := rb_bd hf
  refine rb_hzs C e_93 dX2_init_109 ?_
  refine rb_dup C dX2_init_110 rfl ?_
  refine rb_iconst (v := 2) C dX2_init_111 rfl ?_
  refine rb_iconst (v := 0) C dX2_init_112 rfl ?_
  obtain ⟨h_94, e_95, hf⟩ := rb_bd hf
  refine rb_hzs C e_95 dX2_init_113 ?_
  refine rb_dup C dX2_init_114 rfl ?_
  refine rb_iconst (v := 3) C dX2_init_115 rfl ?_
  refine rb_iconst (v := 0) C dX2_init_116 rfl ?_
  obtain ⟨h_96, e_97, hf⟩ := rb_bd hf
  refine rb_hzs C e_97 dX2_init_117 ?_
  refine rb_dup C dX2_init_118 rfl ?_
  refine rb_iconst (v := 4) C dX2_init_119 rfl ?_
  refine rb_iconst (v := 1) C dX2_init_120 rfl ?_
  obtain ⟨h_98, e_99, hf⟩ := rb_bd hf
  refine rb_hzs C e_99 dX2_init_121 ?_
  refine rb_dup C dX2_init_122 rfl ?_
  refine rb_iconst (v := 5) C dX2_init_123 rfl ?_
  refine rb_iconst (v := 1) C dX2_init_124 rfl ?_
  obtain ⟨h_100, e_101, hf⟩ := rb_bd hf
  refine rb_hzs C e_101 dX2_init_125 ?_
  refine rb_dup C dX2_init_126 rfl ?_
  refine rb_bipush (v := 6) C dX2_init_127 rfl ?_
  refine rb_iconst (v := 1) C dX2_init_129 rfl ?_
  obtain ⟨h_102, e_103, hf⟩ := rb_bd hf
  refine rb_hzs C e_103 dX2_init_130 ?_
  obtain ⟨h_104, e_105, hf⟩ := rb_bd hf
  refine rb_hputF C ff_X2_47_X2 hnm e_105 rfl rfl dX2_init_131 ?_
  refine rb_aload_n C dX2_init_134 rfl 0 rfl ?_
  refine rb_iconst (v := 5) C dX2_init_135 rfl ?_
  by_cases c_g_106 : (5 : Int32) < 0 ∨ 65536 < (5 : Int32).toNatClampNeg
  · exact absurd ((if_pos c_g_106).symm.trans hf) (fun z => by cases z)
  have hf := (if_neg c_g_106).symm.trans hf
  obtain ⟨a_109, b_110, hf, ea_107, eb_108⟩ := ad_at hf
  refine rb_hnewa (atype := .int) C 0 rfl rfl rfl q202 c_g_106 ((5 : Int32).toNatClampNeg, .inl (fun _ => 0)) (fun _ => rfl) (Bd.c1 hb ea_107) (Bd.s1 hb eb_108) dX2_init_136 ?_
  have hb := Bd.ade hb ea_107 eb_108
  obtain ⟨h_111, e_h_111⟩ : ∃ z, z = (va_up h_104 (((((n + 1) + k_9) + 1) + 1) + 1) (some (.inl (eA Ev 0, (5 : Int32).toNatClampNeg, .inl (fun _ => 0))))) := ⟨_, rfl⟩
  rw [← e_h_111]
  have hf := rb_let hf e_h_111
  obtain ⟨h_112, e_113, hf⟩ := rb_bd hf
  refine rb_hputF C ff_X2_51_X2 hnm e_113 rfl rfl dX2_init_138 ?_
  cases hf
  exact rb_vret C rfl hb.e.2.1 hb.e.2.2 dX2_init_141 ⟨rfl, rfl, hb.e.1⟩
def f_J5_init_J6 (Ev : rb_E) (h : AH) (n : Nat) (o : Nat) : Option (Unit × AH × Nat × Nat) := (some ((), h, 0, 0))
abbrev rm_J5_init_J6 (k s : Nat) : Room := { frames := 1, cells := k, slots := s, locals := 40 }
set_option maxHeartbeats 4000000 in
theorem ct_J5_init_J6 (Ev : rb_E) (h : AH) (n : Nat) (o : Nat) (r : Unit) (h' : AH) (k s : Nat) (hf : f_J5_init_J6 Ev h n o = some (r, h', k, s)) : Ct Ev yJ5_init (ws_ yJ5_init cJ5_init 1 none) (rm_J5_init_J6 k s) [.ref o] h n (pX (.inl (none)) h' (n + k)) := by
  rw [f_J5_init_J6] at hf
  refine Ct.of rfl (Nat.le_of_ble_eq_true rfl) fun X C hnm => ?_
  have C : Cx Ev X RJ5 cJ5_init 1 none [] := C
  show Wa Ev X (rm_J5_init_J6 k s) 1 h n 0 0 (rb_MQ Ev X (rm_J5_init_J6 k s) (pX (.inl (none)) h' (n + k))) 0 [(0, .ref o)] []
  have hb : Bd (n + k) k s n 0 0 k s := ⟨rfl, Nat.le_of_eq (Nat.zero_add _), Nat.le_of_eq (Nat.zero_add _)⟩
  refine rb_aload_n C dJ5_init_0 rfl 0 rfl ?_
  refine rb_objInit C q212 q123 q124 dJ5_init_1 (Nat.le_of_ble_eq_true rfl) (Nat.le_of_ble_eq_true rfl) ?_
  cases hf
  exact rb_vret C rfl hb.e.2.1 hb.e.2.2 dJ5_init_4 ⟨rfl, rfl, hb.e.1⟩
def f_J6_init (Ev : rb_E) (h : AH) (n : Nat) (o : Nat) : Option (Unit × AH × Nat × Nat) := ((f_J5_init_J6 Ev h n o).bind fun (r_2, h_3, k_4, s_5) => (ad k_4 s_5 (if (17 : Int32) < 0 ∨ 65536 < (17 : Int32).toNatClampNeg then none else (ad 1 (17 : Int32).toNatClampNeg (rb_lt (va_up h_3 (n + k_4) (some (.inl (eA Ev 6, (17 : Int32).toNatClampNeg, aQ (fun _ => none))))) fun h_16 => ((hp_put h_16 o 15 0 (.ref (n + k_4))).bind fun h_17 => (some ((), h_17, 0, 0))))))))
abbrev rm_J6_init (k s : Nat) : Room := { frames := 2, cells := k, slots := s, locals := 60 }
set_option maxHeartbeats 4000000 in
theorem ct_J6_init (Ev : rb_E) (h : AH) (n : Nat) (o : Nat) (r : Unit) (h' : AH) (k s : Nat) (hf : f_J6_init Ev h n o = some (r, h', k, s)) : Ct Ev yJ6_init (ws_ yJ6_init cJ6_init 1 none) (rm_J6_init k s) [.ref o] h n (pX (.inl (none)) h' (n + k)) := by
  rw [f_J6_init] at hf
  refine Ct.of rfl (Nat.le_of_ble_eq_true rfl) fun X C hnm => ?_
  have C : Cx Ev X RJ6 cJ6_init 1 none [] := C
  show Wa Ev X (rm_J6_init k s) 1 h n 0 0 (rb_MQ Ev X (rm_J6_init k s) (pX (.inl (none)) h' (n + k))) 0 [(0, .ref o)] []
  have hb : Bd (n + k) k s n 0 0 k s := ⟨rfl, Nat.le_of_eq (Nat.zero_add _), Nat.le_of_eq (Nat.zero_add _)⟩
  refine rb_aload_n C dJ6_init_0 rfl 0 rfl ?_
  obtain ⟨⟨r_2, h_3, k_4, s_5⟩, e_6, hf⟩ := rb_bd hf
  obtain ⟨a_9, b_10, hf, ea_7, eb_8⟩ := ad_at hf
  refine rb_callI (As := []) (rest := []) C mi_J5_init si_J6_42 (ct_J5_init_J6 Ev h n o r_2 _ _ _ e_6) rfl rfl (Nat.le_of_ble_eq_true rfl) ⟨Nat.le_of_ble_eq_true rfl, Nat.le_of_ble_eq_true rfl, Bd.c1 hb ea_7, Bd.s1 hb eb_8⟩ dJ6_init_1 rb_xX (rb_kX (rb_w (kc := (0 + k_4)) (ks := (0 + s_5)) rfl rfl ?_))
  have hb := Bd.ade hb ea_7 eb_8
  refine rb_aload_n C dJ6_init_4 rfl 0 rfl ?_
  refine rb_bipush (v := 17) C dJ6_init_5 rfl ?_
  by_cases c_g_11 : (17 : Int32) < 0 ∨ 65536 < (17 : Int32).toNatClampNeg
  · exact absurd ((if_pos c_g_11).symm.trans hf) (fun z => by cases z)
  have hf := (if_neg c_g_11).symm.trans hf
  obtain ⟨a_14, b_15, hf, ea_12, eb_13⟩ := ad_at hf
  refine rb_hnewq C 6 rfl q213 q214 c_g_11 (Bd.c1 hb ea_12) (Bd.s1 hb eb_13) dJ6_init_7 ?_
  have hb := Bd.ade hb ea_12 eb_13
  obtain ⟨h_16, e_h_16⟩ : ∃ z, z = (va_up h_3 (n + k_4) (some (.inl (eA Ev 6, (17 : Int32).toNatClampNeg, aQ (fun _ => none))))) := ⟨_, rfl⟩
  rw [← e_h_16]
  have hf := rb_let hf e_h_16
  obtain ⟨h_17, e_18, hf⟩ := rb_bd hf
  refine rb_hput C fw_J6_3_J6 e_18 rfl rfl dJ6_init_10 ?_
  cases hf
  exact rb_vret C rfl hb.e.2.1 hb.e.2.2 dJ6_init_13 ⟨rfl, rfl, hb.e.1⟩
def f_X1_init (Ev : rb_E) (h : AH) (n : Nat) (o : Nat) : Option (Unit × AH × Nat × Nat) := (ad 1 5 (rb_lt (va_up h n (some (.inr (1, [.null, .null, .null, .null, .null])))) fun h_5 => ((f_X2_init Ev h_5 (n + 1) n).bind fun (r_7, h_8, k_9, s_10) => (ad k_9 s_10 ((hp_put h_8 o 0 0 (.ref n)).bind fun h_16 => (ad 1 3 (rb_lt (va_up h_16 ((n + 1) + k_9) (some (.inr (15, [.null, .int 0, .int 0])))) fun h_22 => ((f_J6_init Ev h_22 (((n + 1) + k_9) + 1) ((n + 1) + k_9)).bind fun (r_24, h_25, k_26, s_27) => (ad k_26 s_27 ((hp_put h_25 o 0 1 (.ref ((n + 1) + k_9))).bind fun h_33 => (ad 1 4 (rb_lt (va_up h_33 ((((n + 1) + k_9) + 1) + k_26) (some (.inr (13, [.null, .int 0, .int 0, .int 0])))) fun h_39 => ((f_J1_init Ev h_39 (((((n + 1) + k_9) + 1) + k_26) + 1) ((((n + 1) + k_9) + 1) + k_26)).bind fun (r_41, h_42, k_43, s_44) => (ad k_43 s_44 ((hp_put h_42 o 0 2 (.ref ((((n + 1) + k_9) + 1) + k_26))).bind fun h_50 => ((hp_put h_50 o 0 3 (.ref (eS Ev RX1 93))).bind fun h_52 => ((hp_put h_52 o 0 4 (.int (-1))).bind fun h_54 => (some ((), h_54, 0, 0)))))))))))))))))))
abbrev rm_X1_init (k s : Nat) : Room := { frames := 4, cells := k, slots := s, locals := 101 }
set_option maxHeartbeats 4000000 in
theorem ct_X1_init (Ev : rb_E) (h : AH) (n : Nat) (o : Nat) (r : Unit) (h' : AH) (k s : Nat) (hf : f_X1_init Ev h n o = some (r, h', k, s)) : Ct Ev yX1_init (ws_ yX1_init cX1_init 1 none) (rm_X1_init k s) [.ref o] h n (pX (.inl (none)) h' (n + k)) := by
  rw [f_X1_init] at hf
  refine Ct.of rfl (Nat.le_of_ble_eq_true rfl) fun X C hnm => ?_
  have C : Cx Ev X RX1 cX1_init 1 none [] := C
  show Wa Ev X (rm_X1_init k s) 1 h n 0 0 (rb_MQ Ev X (rm_X1_init k s) (pX (.inl (none)) h' (n + k))) 0 [(0, .ref o)] []
  have hb : Bd (n + k) k s n 0 0 k s := ⟨rfl, Nat.le_of_eq (Nat.zero_add _), Nat.le_of_eq (Nat.zero_add _)⟩
  refine rb_aload_n C dX1_init_0 rfl 0 rfl ?_
  refine rb_objInit C q122 q123 q124 dX1_init_1 (Nat.le_of_ble_eq_true rfl) (Nat.le_of_ble_eq_true rfl) ?_
  refine rb_aload_n C dX1_init_4 rfl 0 rfl ?_
  obtain ⟨a_3, b_4, hf, ea_1, eb_2⟩ := ad_at hf
  refine rb_hnew C ck_X2 q125 q126 q70 [.null, .null, .null, .null, .null] rfl (Bd.c1 hb ea_1) (Bd.s1 hb eb_2) dX1_init_5 ?_
  have hb := Bd.ade hb ea_1 eb_2
  obtain ⟨h_5, e_h_5⟩ : ∃ z, z = (va_up h n (some (.inr (1, [.null, .null, .null, .null, .null])))) := ⟨_, rfl⟩
  rw [← e_h_5]
  have hf := rb_let hf e_h_5
  refine rb_dup C dX1_init_8 rfl ?_
  obtain ⟨⟨r_7, h_8, k_9, s_10⟩, e_11, hf⟩ := rb_bd hf
  obtain ⟨a_14, b_15, hf, ea_12, eb_13⟩ := ad_at hf
  refine rb_callI (As := []) (rest := [.ref n, .ref o]) C mi_X2_init si_X1_103 (ct_X2_init Ev h_5 (n + 1) n r_7 _ _ _ e_11) rfl rfl (Nat.le_of_ble_eq_true rfl) ⟨Nat.le_of_ble_eq_true rfl, Nat.le_of_ble_eq_true rfl, Bd.c1 hb ea_12, Bd.s1 hb eb_13⟩ dX1_init_9 rb_xX (rb_kX (rb_w (kc := ((0 + 1) + k_9)) (ks := ((0 + 5) + s_10)) rfl rfl ?_))
  have hb := Bd.ade hb ea_12 eb_13
  obtain ⟨h_16, e_17, hf⟩ := rb_bd hf
  refine rb_hput C fw_X1_104_X1 e_17 rfl rfl dX1_init_12 ?_
  refine rb_aload_n C dX1_init_15 rfl 0 rfl ?_
  obtain ⟨a_20, b_21, hf, ea_18, eb_19⟩ := ad_at hf
  refine rb_hnew C ck_J6 q204 q205 q78 [.null, .int 0, .int 0] rfl (Bd.c1 hb ea_18) (Bd.s1 hb eb_19) dX1_init_16 ?_
  have hb := Bd.ade hb ea_18 eb_19
  obtain ⟨h_22, e_h_22⟩ : ∃ z, z = (va_up h_16 ((n + 1) + k_9) (some (.inr (15, [.null, .int 0, .int 0])))) := ⟨_, rfl⟩
  rw [← e_h_22]
  have hf := rb_let hf e_h_22
  refine rb_dup C dX1_init_19 rfl ?_
  obtain ⟨⟨r_24, h_25, k_26, s_27⟩, e_28, hf⟩ := rb_bd hf
  obtain ⟨a_31, b_32, hf, ea_29, eb_30⟩ := ad_at hf
  refine rb_callI (As := []) (rest := [.ref ((n + 1) + k_9), .ref o]) C mi_J6_init si_X1_110 (ct_J6_init Ev h_22 (((n + 1) + k_9) + 1) ((n + 1) + k_9) r_24 _ _ _ e_28) rfl rfl (Nat.le_of_ble_eq_true rfl) ⟨Nat.le_of_ble_eq_true rfl, Nat.le_of_ble_eq_true rfl, Bd.c1 hb ea_29, Bd.s1 hb eb_30⟩ dX1_init_20 rb_xX (rb_kX (rb_w (kc := ((((0 + 1) + k_9) + 1) + k_26)) (ks := ((((0 + 5) + s_10) + 3) + s_27)) rfl rfl ?_))
  have hb := Bd.ade hb ea_29 eb_30
  obtain ⟨h_33, e_34, hf⟩ := rb_bd hf
  refine rb_hputF C ff_X1_111_X1 hnm e_34 rfl rfl dX1_init_23 ?_
  refine rb_aload_n C dX1_init_26 rfl 0 rfl ?_
  obtain ⟨a_37, b_38, hf, ea_35, eb_36⟩ := ad_at hf
  refine rb_hnew C ck_J1 q225 q132 q72 [.null, .int 0, .int 0, .int 0] rfl (Bd.c1 hb ea_35) (Bd.s1 hb eb_36) dX1_init_27 ?_
  have hb := Bd.ade hb ea_35 eb_36
  obtain ⟨h_39, e_h_39⟩ : ∃ z, z = (va_up h_33 ((((n + 1) + k_9) + 1) + k_26) (some (.inr (13, [.null, .int 0, .int 0, .int 0])))) := ⟨_, rfl⟩
  rw [← e_h_39]
  have hf := rb_let hf e_h_39
  refine rb_dup C dX1_init_30 rfl ?_
  obtain ⟨⟨r_41, h_42, k_43, s_44⟩, e_45, hf⟩ := rb_bd hf
  obtain ⟨a_48, b_49, hf, ea_46, eb_47⟩ := ad_at hf
  refine rb_callI (As := []) (rest := [.ref ((((n + 1) + k_9) + 1) + k_26), .ref o]) C mi_J1_init si_X1_65 (ct_J1_init Ev h_39 (((((n + 1) + k_9) + 1) + k_26) + 1) ((((n + 1) + k_9) + 1) + k_26) r_41 _ _ _ e_45) rfl rfl (Nat.le_of_ble_eq_true rfl) ⟨Nat.le_of_ble_eq_true rfl, Nat.le_of_ble_eq_true rfl, Bd.c1 hb ea_46, Bd.s1 hb eb_47⟩ dX1_init_31 rb_xX (rb_kX (rb_w (kc := ((((((0 + 1) + k_9) + 1) + k_26) + 1) + k_43)) (ks := ((((((0 + 5) + s_10) + 3) + s_27) + 4) + s_44)) rfl rfl ?_))
  have hb := Bd.ade hb ea_46 eb_47
  obtain ⟨h_50, e_51, hf⟩ := rb_bd hf
  refine rb_hputF C ff_X1_115_X1 hnm e_51 rfl rfl dX1_init_34 ?_
  refine rb_aload_n C dX1_init_37 rfl 0 rfl ?_
  refine rb_ldcS C q227 dX1_init_38 ?_
  obtain ⟨h_52, e_53, hf⟩ := rb_bd hf
  refine rb_hput C fw_X1_119_X1 e_53 rfl rfl dX1_init_40 ?_
  refine rb_aload_n C dX1_init_43 rfl 0 rfl ?_
  refine rb_iconst (v := (-1)) C dX1_init_44 rfl ?_
  obtain ⟨h_54, e_55, hf⟩ := rb_bd hf
  refine rb_hput C fw_X1_123_X1 e_55 rfl rfl dX1_init_45 ?_
  cases hf
  exact rb_vret C rfl hb.e.2.1 hb.e.2.2 dX1_init_48 ⟨rfl, rfl, hb.e.1⟩
def f_J2_coder (Ev : rb_E) (h : AH) (o : Nat) : Option Int32 := ((hp_i Ev h o 14 1).bind fun v_1 => (if narrow .byte (.int v_1) = .int v_1 then (some v_1) else none))
abbrev rm_J2_coder : Room := { frames := 0, cells := 0, slots := 0, locals := 0 }
set_option maxHeartbeats 4000000 in
theorem ct_J2_coder (Ev : rb_E) (h : AH) (n : Nat) (o : Nat) (r : Int32) (hf : f_J2_coder Ev h o = some r) : Ct Ev yJ2_coder (ws_ yJ2_coder cJ2_coder 1 (some .byte)) (rm_J2_coder) [.ref o] h n (pXi .byte r h n) := by
  rw [f_J2_coder] at hf
  refine Ct.of rfl (Nat.le_of_ble_eq_true rfl) fun X C hnm => ?_
  have C : Cx Ev X RJ2 cJ2_coder 1 (some .byte) [] := C
  show Wa Ev X (rm_J2_coder) 1 h n 0 0 (rb_MQ Ev X (rm_J2_coder) (pXi .byte r h n)) 0 [(0, .ref o)] []
  refine rb_gets (v := .int 1) C q363 q141 (C.pf.2.2.1.1) dJ2_coder_0 ?_
  refine rb_if_eq (tgt := 13) C dJ2_coder_3 (by decide) (fun c => absurd c (by decide)) (fun _ => ?_)
  refine rb_aload_n C dJ2_coder_6 rfl 0 rfl ?_
  obtain ⟨v_1, e_2, hf⟩ := rb_bd hf
  refine rb_hI C fl_J2_15_J2 e_2 dJ2_coder_7 ?_
  refine rb_goto (tgt := 14) C dJ2_coder_10 (by decide) ?_
  by_cases c_g_3 : narrow .byte (.int v_1) = .int v_1
  rotate_left
  · exact absurd ((if_neg c_g_3).symm.trans hf) (fun z => by cases z)
  have hf := (if_pos c_g_3).symm.trans hf
  cases hf
  exact rb_iret C rfl c_g_3 (Nat.zero_le _) (Nat.zero_le _) dJ2_coder_14 ⟨rfl, rfl, rfl, c_g_3⟩
def f_J2_length (Ev : rb_E) (h : AH) (o : Nat) : Option Int32 := ((hp_p Ev h o 14 0).bind fun v_1 => ((hp_len Ev h v_1 1).bind fun v_3 => ((hp_k Ev h o 14).bind fun u_5 => ((f_J2_coder Ev h o).bind fun v_8 => (some ((nI v_3) >>> (v_8 &&& 31)))))))
abbrev rm_J2_length : Room := { frames := 1, cells := 0, slots := 0, locals := 20 }
set_option maxHeartbeats 4000000 in
theorem ct_J2_length (Ev : rb_E) (h : AH) (n : Nat) (o : Nat) (r : Int32) (hf : f_J2_length Ev h o = some r) : Ct Ev yJ2_length (ws_ yJ2_length cJ2_length 1 (some .int)) (rm_J2_length) [.ref o] h n (pXi .int r h n) := by
  rw [f_J2_length] at hf
  refine Ct.of rfl (Nat.le_of_ble_eq_true rfl) fun X C hnm => ?_
  have C : Cx Ev X RJ2 cJ2_length 1 (some .int) [] := C
  show Wa Ev X (rm_J2_length) 1 h n 0 0 (rb_MQ Ev X (rm_J2_length) (pXi .int r h n)) 0 [(0, .ref o)] []
  refine rb_aload_n C dJ2_length_0 rfl 0 rfl ?_
  obtain ⟨v_1, e_2, hf⟩ := rb_bd hf
  refine rb_hP C fl_J2_9_J2 e_2 dJ2_length_1 ?_
  obtain ⟨v_3, e_4, hf⟩ := rb_bd hf
  refine rb_hlen (t := 1) C rfl e_4 dJ2_length_4 ?_
  refine rb_aload_n C dJ2_length_5 rfl 0 rfl ?_
  obtain ⟨u_5, e_6, hf⟩ := rb_bd hf
  obtain ⟨v_8, e_9, hf⟩ := rb_bd hf
  refine rb_callV (As := []) (rest := [.int (nI v_3)]) C mi_J2_coder sv_J2_335 (hp_k_isC C.pf e_6 ck_J2) (ct_J2_coder Ev h n o _ e_9) rfl rfl (Nat.le_of_ble_eq_true rfl) ⟨Nat.le_of_ble_eq_true rfl, Nat.le_of_ble_eq_true rfl, (Nat.zero_le _), (Nat.zero_le _)⟩ dJ2_length_6 rb_xXi (rb_kXi fun hn_7 => (rb_w (kc := 0) (ks := 0) rfl rfl ?_))
  refine rb_ishr C dJ2_length_9 ?_
  cases hf
  exact rb_iret C rfl rfl (Nat.zero_le _) (Nat.zero_le _) dJ2_length_10 ⟨rfl, rfl, rfl, rfl⟩
def f_J10_checkFromToIndex (Ev : rb_E) (h : AH) (x0 : Int32) (x1 : Int32) (x2 : Int32) (x3 : Option Nat) : Option Int32 := (match x3 with | none => (if x0 < 0 then none else (if x1 < x0 then none else (if x1 ≤ x2 then (some x0) else none))) | some x3_q => (if x0 < 0 then none else (if x1 < x0 then none else (if x1 ≤ x2 then (some x0) else none))))
abbrev rm_J10_checkFromToIndex : Room := { frames := 0, cells := 0, slots := 0, locals := 0 }
set_option maxHeartbeats 4000000 in
theorem ct_J10_checkFromToIndex (Ev : rb_E) (h : AH) (n : Nat) (x0 : Int32) (x1 : Int32) (x2 : Int32) (x3 : Option Nat) (r : Int32) (hf : f_J10_checkFromToIndex Ev h x0 x1 x2 x3 = some r) : Ct Ev yJ10_checkFromToIndex (ws_ yJ10_checkFromToIndex cJ10_checkFromToIndex 4 (some .int)) (rm_J10_checkFromToIndex) [.int x0, .int x1, .int x2, va_rf x3] h n (pXi .int r h n) := by
  unfold f_J10_checkFromToIndex at hf
  cases x3 with
  | none =>
    dsimp only at hf
    refine Ct.of rfl (Nat.le_of_ble_eq_true rfl) fun X C hnm => ?_
    have C : Cx Ev X RJ10 cJ10_checkFromToIndex 4 (some .int) [] := C
    show Wa Ev X (rm_J10_checkFromToIndex) 4 h n 0 0 (rb_MQ Ev X (rm_J10_checkFromToIndex) (pXi .int r h n)) 0 [(0, .int x0), (1, .int x1), (2, .int x2), (3, .null)] []
    refine rb_iload_n C dJ10_checkFromToIndex_0 rfl 0 rfl ?_
    refine rb_if_lt (tgt := 14) C dJ10_checkFromToIndex_1 (by decide) (fun c_1 => ?_) (fun c_1 => ?_)
    · have hf := (if_pos c_1).symm.trans hf
      cases hf
    · have hf := (if_neg c_1).symm.trans hf
      refine rb_iload_n C dJ10_checkFromToIndex_4 rfl 0 rfl ?_
      refine rb_iload_n C dJ10_checkFromToIndex_5 rfl 1 rfl ?_
      refine rb_icmp_gt (tgt := 14) C dJ10_checkFromToIndex_6 (by decide) (fun c_2 => ?_) (fun c_2 => ?_)
      · have hf := (if_pos c_2).symm.trans hf
        cases hf
      · have hf := (if_neg c_2).symm.trans hf
        refine rb_iload_n C dJ10_checkFromToIndex_9 rfl 1 rfl ?_
        refine rb_iload_n C dJ10_checkFromToIndex_10 rfl 2 rfl ?_
        refine rb_icmp_le (tgt := 22) C dJ10_checkFromToIndex_11 (by decide) (fun c_3 => ?_) (fun c_3 => ?_)
        · have hf := (if_pos c_3).symm.trans hf
          refine rb_iload_n C dJ10_checkFromToIndex_22 rfl 0 rfl ?_
          cases hf
          exact rb_iret C rfl rfl (Nat.zero_le _) (Nat.zero_le _) dJ10_checkFromToIndex_23 ⟨rfl, rfl, rfl, rfl⟩
        · have hf := (if_neg c_3).symm.trans hf
          cases hf
  | some x3_q =>
    dsimp only at hf
    refine Ct.of rfl (Nat.le_of_ble_eq_true rfl) fun X C hnm => ?_
    have C : Cx Ev X RJ10 cJ10_checkFromToIndex 4 (some .int) [] := C
    show Wa Ev X (rm_J10_checkFromToIndex) 4 h n 0 0 (rb_MQ Ev X (rm_J10_checkFromToIndex) (pXi .int r h n)) 0 [(0, .int x0), (1, .int x1), (2, .int x2), (3, .ref x3_q)] []
    refine rb_iload_n C dJ10_checkFromToIndex_0 rfl 0 rfl ?_
    refine rb_if_lt (tgt := 14) C dJ10_checkFromToIndex_1 (by decide) (fun c_4 => ?_) (fun c_4 => ?_)
    · have hf := (if_pos c_4).symm.trans hf
      cases hf
    · have hf := (if_neg c_4).symm.trans hf
      refine rb_iload_n C dJ10_checkFromToIndex_4 rfl 0 rfl ?_
      refine rb_iload_n C dJ10_checkFromToIndex_5 rfl 1 rfl ?_
      refine rb_icmp_gt (tgt := 14) C dJ10_checkFromToIndex_6 (by decide) (fun c_5 => ?_) (fun c_5 => ?_)
      · have hf := (if_pos c_5).symm.trans hf
        cases hf
      · have hf := (if_neg c_5).symm.trans hf
        refine rb_iload_n C dJ10_checkFromToIndex_9 rfl 1 rfl ?_
        refine rb_iload_n C dJ10_checkFromToIndex_10 rfl 2 rfl ?_
        refine rb_icmp_le (tgt := 22) C dJ10_checkFromToIndex_11 (by decide) (fun c_6 => ?_) (fun c_6 => ?_)
        · have hf := (if_pos c_6).symm.trans hf
          refine rb_iload_n C dJ10_checkFromToIndex_22 rfl 0 rfl ?_
          cases hf
          exact rb_iret C rfl rfl (Nat.zero_le _) (Nat.zero_le _) dJ10_checkFromToIndex_23 ⟨rfl, rfl, rfl, rfl⟩
        · have hf := (if_neg c_6).symm.trans hf
          cases hf
def f_J7_newLength (Ev : rb_E) (h : AH) (x0 : Int32) (x1 : Int32) (x2 : Int32) : Option Int32 := (if (x0 + (if x1 < x2 then x2 else x1)) ≤ 0 then none else (if 2147483639 < (x0 + (if x1 < x2 then x2 else x1)) then none else (some (x0 + (if x1 < x2 then x2 else x1)))))
abbrev rm_J7_newLength : Room := { frames := 1, cells := 0, slots := 0, locals := 60 }
set_option maxHeartbeats 4000000 in
theorem ct_J7_newLength (Ev : rb_E) (h : AH) (n : Nat) (x0 : Int32) (x1 : Int32) (x2 : Int32) (r : Int32) (hf : f_J7_newLength Ev h x0 x1 x2 = some r) : Ct Ev yJ7_newLength (ws_ yJ7_newLength cJ7_newLength 4 (some .int)) (rm_J7_newLength) [.int x0, .int x1, .int x2] h n (pXi .int r h n) := by
  rw [f_J7_newLength] at hf
  refine Ct.of rfl (Nat.le_of_ble_eq_true rfl) fun X C hnm => ?_
  have C : Cx Ev X RJ7 cJ7_newLength 4 (some .int) [] := C
  show Wa Ev X (rm_J7_newLength) 4 h n 0 0 (rb_MQ Ev X (rm_J7_newLength) (pXi .int r h n)) 0 [(0, .int x0), (1, .int x1), (2, .int x2)] []
  refine rb_iload_n C dJ7_newLength_0 rfl 0 rfl ?_
  refine rb_iload_n C dJ7_newLength_1 rfl 1 rfl ?_
  refine rb_iload_n C dJ7_newLength_2 rfl 2 rfl ?_
  refine rb_mmax C q287 q288 q81 q289 (Nat.le_of_ble_eq_true rfl) (Nat.le_of_ble_eq_true rfl) (Nat.zero_le _) (Nat.zero_le _) dJ7_newLength_3 ?_
  refine rb_iadd C dJ7_newLength_6 ?_
  refine rb_istore_n (lv' := [(3, .int (x0 + (if x1 < x2 then x2 else x1))), (0, .int x0), (1, .int x1), (2, .int x2)]) C dJ7_newLength_7 rfl (by decide) rfl ?_
  refine rb_iconst (v := 0) C dJ7_newLength_8 rfl ?_
  refine rb_iload_n C dJ7_newLength_9 rfl 0 rfl ?_
  refine rb_icmp_ge (tgt := 21) C dJ7_newLength_10 (by decide) (fun c_1 => ?_) (fun c_1 => ?_)
  · have hf := (if_pos c_1).symm.trans hf
    refine rb_iload_n C dJ7_newLength_21 rfl 1 rfl ?_
    refine rb_iload_n C dJ7_newLength_22 rfl 2 rfl ?_
    cases hf
  · have hf := (if_neg c_1).symm.trans hf
    refine rb_iload_n C dJ7_newLength_13 rfl 0 rfl ?_
    refine rb_ldc C q290 dJ7_newLength_14 ?_
    refine rb_icmp_gt (tgt := 21) C dJ7_newLength_16 (by decide) (fun c_2 => ?_) (fun c_2 => ?_)
    · have hf := (if_pos c_2).symm.trans hf
      refine rb_iload_n C dJ7_newLength_21 rfl 1 rfl ?_
      refine rb_iload_n C dJ7_newLength_22 rfl 2 rfl ?_
      cases hf
    · have hf := (if_neg c_2).symm.trans hf
      refine rb_iload_n C dJ7_newLength_19 rfl 0 rfl ?_
      cases hf
      exact rb_iret C rfl rfl (Nat.zero_le _) (Nat.zero_le _) dJ7_newLength_20 ⟨rfl, rfl, rfl, rfl⟩
def f_J0_newCapacity (Ev : rb_E) (h : AH) (o : Nat) (x1 : Int32) : Option Int32 := ((hp_p Ev h o 13 0).bind fun v_1 => ((hp_len Ev h v_1 1).bind fun v_3 => ((hp_i Ev h o 13 1).bind fun v_5 => ((hp_i Ev h o 13 1).bind fun v_7 => ((f_J7_newLength Ev h (nI v_3) ((x1 <<< (v_5 &&& 31)) - (nI v_3)) ((nI v_3) + (2 <<< (v_7 &&& 31)))).bind fun v_10 => (if v_10 = 2147483647 then none else ((hp_i Ev h o 13 1).bind fun v_13 => (some (v_10 >>> (v_13 &&& 31))))))))))
abbrev rm_J0_newCapacity : Room := { frames := 2, cells := 0, slots := 0, locals := 83 }
set_option maxHeartbeats 4000000 in
theorem ct_J0_newCapacity (Ev : rb_E) (h : AH) (n : Nat) (o : Nat) (x1 : Int32) (r : Int32) (hf : f_J0_newCapacity Ev h o x1 = some r) : Ct Ev yJ0_newCapacity (ws_ yJ0_newCapacity cJ0_newCapacity 6 (some .int)) (rm_J0_newCapacity) [.ref o, .int x1] h n (pXi .int r h n) := by
  rw [f_J0_newCapacity] at hf
  refine Ct.of rfl (Nat.le_of_ble_eq_true rfl) fun X C hnm => ?_
  have C : Cx Ev X RJ0 cJ0_newCapacity 6 (some .int) [] := C
  show Wa Ev X (rm_J0_newCapacity) 6 h n 0 0 (rb_MQ Ev X (rm_J0_newCapacity) (pXi .int r h n)) 0 [(0, .ref o), (1, .int x1)] []
  refine rb_aload_n C dJ0_newCapacity_0 rfl 0 rfl ?_
  obtain ⟨v_1, e_2, hf⟩ := rb_bd hf
  refine rb_hP C fl_J0_15_J1 e_2 dJ0_newCapacity_1 ?_
  obtain ⟨v_3, e_4, hf⟩ := rb_bd hf
  refine rb_hlen (t := 1) C rfl e_4 dJ0_newCapacity_4 ?_
  refine rb_istore_n (lv' := [(2, .int (nI v_3)), (0, .ref o), (1, .int x1)]) C dJ0_newCapacity_5 rfl (by decide) rfl ?_
  refine rb_iload_n C dJ0_newCapacity_6 rfl 2 rfl ?_
  refine rb_aload_n C dJ0_newCapacity_7 rfl 1 rfl ?_
  obtain ⟨v_5, e_6, hf⟩ := rb_bd hf
  refine rb_hI C fl_J0_22_J1 e_6 dJ0_newCapacity_8 ?_
  refine rb_ishl C dJ0_newCapacity_11 ?_
  refine rb_istore_n (lv' := [(3, .int (x1 <<< (v_5 &&& 31))), (2, .int (nI v_3)), (0, .ref o), (1, .int x1)]) C dJ0_newCapacity_12 rfl (by decide) rfl ?_
  refine rb_iload_n C dJ0_newCapacity_13 rfl 0 rfl ?_
  refine rb_iload_n C dJ0_newCapacity_14 rfl 1 rfl ?_
  refine rb_isub C dJ0_newCapacity_15 ?_
  refine rb_istore (lv' := [(4, .int ((x1 <<< (v_5 &&& 31)) - (nI v_3))), (3, .int (x1 <<< (v_5 &&& 31))), (2, .int (nI v_3)), (0, .ref o), (1, .int x1)]) C dJ0_newCapacity_16 (by decide) rfl ?_
  refine rb_iload_n C dJ0_newCapacity_18 rfl 2 rfl ?_
  refine rb_iload C dJ0_newCapacity_19 0 rfl ?_
  refine rb_iload_n C dJ0_newCapacity_21 rfl 2 rfl ?_
  refine rb_iconst (v := 2) C dJ0_newCapacity_22 rfl ?_
  refine rb_aload_n C dJ0_newCapacity_23 rfl 3 rfl ?_
  obtain ⟨v_7, e_8, hf⟩ := rb_bd hf
  refine rb_hI C fl_J0_22_J1 e_8 dJ0_newCapacity_24 ?_
  refine rb_ishl C dJ0_newCapacity_27 ?_
  refine rb_iadd C dJ0_newCapacity_28 ?_
  obtain ⟨v_10, e_11, hf⟩ := rb_bd hf
  refine rb_callS (As := [.int (nI v_3), .int ((x1 <<< (v_5 &&& 31)) - (nI v_3)), .int ((nI v_3) + (2 <<< (v_7 &&& 31)))]) (rest := []) C mi_J7_newLength ss_J0_114 (ct_J7_newLength Ev h n (nI v_3) ((x1 <<< (v_5 &&& 31)) - (nI v_3)) ((nI v_3) + (2 <<< (v_7 &&& 31))) _ e_11) rfl rfl (Nat.le_of_ble_eq_true rfl) ⟨Nat.le_of_ble_eq_true rfl, Nat.le_of_ble_eq_true rfl, (Nat.zero_le _), (Nat.zero_le _)⟩ dJ0_newCapacity_29 rb_xXi (rb_kXi fun hn_9 => (rb_w (kc := 0) (ks := 0) rfl rfl ?_))
  refine rb_istore (lv' := [(5, .int v_10), (4, .int ((x1 <<< (v_5 &&& 31)) - (nI v_3))), (3, .int (x1 <<< (v_5 &&& 31))), (2, .int (nI v_3)), (0, .ref o), (1, .int x1)]) C dJ0_newCapacity_32 (by decide) rfl ?_
  refine rb_iload C dJ0_newCapacity_34 0 rfl ?_
  refine rb_ldc C q294 dJ0_newCapacity_36 ?_
  refine rb_icmp_ne (tgt := 51) C dJ0_newCapacity_38 (by decide) (fun c_12 => ?_) (fun c_12 => ?_)
  · have hf := (if_neg c_12).symm.trans hf
    refine rb_iload C dJ0_newCapacity_51 0 rfl ?_
    refine rb_aload_n C dJ0_newCapacity_53 rfl 4 rfl ?_
    obtain ⟨v_13, e_14, hf⟩ := rb_bd hf
    refine rb_hI C fl_J0_22_J1 e_14 dJ0_newCapacity_54 ?_
    refine rb_ishr C dJ0_newCapacity_57 ?_
    cases hf
    exact rb_iret C rfl rfl (Nat.zero_le _) (Nat.zero_le _) dJ0_newCapacity_58 ⟨rfl, rfl, rfl, rfl⟩
  · have hf := (if_pos c_12).symm.trans hf
    cases hf
def f_J9_copyOf (Ev : rb_E) (h : AH) (n : Nat) (x0 : Nat) (x1 : Int32) : Option (Nat × AH × Nat × Nat) := ((hp_len Ev h x0 1).bind fun v_1 => (if x1 = (nI v_1) then ((hp_cln Ev h n 1 x0).bind fun h_14 => ((hp_len Ev h x0 1).bind fun v_15 => (ad 1 v_15 ((hp_len Ev h_14 n 1).bind fun u_22 => (some (n, h_14, 0, 0)))))) else (if x1 < 0 ∨ 65536 < x1.toNatClampNeg then none else (ad 1 x1.toNatClampNeg (rb_lt (va_up h n (some (.inl (eA Ev 1, x1.toNatClampNeg, .inl (fun _ => 0))))) fun h_9 => ((hp_len Ev h_9 x0 1).bind fun v_10 => ((hp_cpi Ev h_9 1 .byte x0 0 n 0 (if x1 < (nI v_10) then x1 else (nI v_10))).bind fun h_12 => (some (n, h_12, 0, 0)))))))))
abbrev rm_J9_copyOf (k s : Nat) : Room := { frames := 1, cells := k, slots := s, locals := 60 }
set_option maxHeartbeats 4000000 in
theorem ct_J9_copyOf (Ev : rb_E) (h : AH) (n : Nat) (x0 : Nat) (x1 : Int32) (r : Nat) (h' : AH) (k s : Nat) (hf : f_J9_copyOf Ev h n x0 x1 = some (r, h', k, s)) : Ct Ev yJ9_copyOf (ws_ yJ9_copyOf cJ9_copyOf 3 (some (.array .byte))) (rm_J9_copyOf k s) [.ref x0, .int x1] h n (pX (.inl (some (.ref r))) h' (n + k)) := by
  rw [f_J9_copyOf] at hf
  refine Ct.of rfl (Nat.le_of_ble_eq_true rfl) fun X C hnm => ?_
  have C : Cx Ev X RJ9 cJ9_copyOf 3 (some (.array .byte)) [] := C
  show Wa Ev X (rm_J9_copyOf k s) 3 h n 0 0 (rb_MQ Ev X (rm_J9_copyOf k s) (pX (.inl (some (.ref r))) h' (n + k))) 0 [(0, .ref x0), (1, .int x1)] []
  have hb : Bd (n + k) k s n 0 0 k s := ⟨rfl, Nat.le_of_eq (Nat.zero_add _), Nat.le_of_eq (Nat.zero_add _)⟩
  refine rb_iload_n C dJ9_copyOf_0 rfl 1 rfl ?_
  refine rb_aload_n C dJ9_copyOf_1 rfl 0 rfl ?_
  obtain ⟨v_1, e_2, hf⟩ := rb_bd hf
  refine rb_hlen (t := 1) C rfl e_2 dJ9_copyOf_2 ?_
  refine rb_icmp_ne (tgt := 14) C dJ9_copyOf_3 (by decide) (fun c_3 => ?_) (fun c_3 => ?_)
  · have hf := (if_neg c_3).symm.trans hf
    refine rb_iload_n C dJ9_copyOf_14 rfl 1 rfl ?_
    by_cases c_g_4 : x1 < 0 ∨ 65536 < x1.toNatClampNeg
    · exact absurd ((if_pos c_g_4).symm.trans hf) (fun z => by cases z)
    have hf := (if_neg c_g_4).symm.trans hf
    obtain ⟨a_7, b_8, hf, ea_5, eb_6⟩ := ad_at hf
    refine rb_hnewa (atype := .byte) C 1 rfl rfl rfl q163 c_g_4 (x1.toNatClampNeg, .inl (fun _ => 0)) (fun _ => rfl) (Bd.c1 hb ea_5) (Bd.s1 hb eb_6) dJ9_copyOf_15 ?_
    have hb := Bd.ade hb ea_5 eb_6
    obtain ⟨h_9, e_h_9⟩ : ∃ z, z = (va_up h n (some (.inl (eA Ev 1, x1.toNatClampNeg, .inl (fun _ => 0))))) := ⟨_, rfl⟩
    rw [← e_h_9]
    have hf := rb_let hf e_h_9
    refine rb_astore_n (lv' := [(2, .ref n), (0, .ref x0), (1, .int x1)]) C dJ9_copyOf_17 rfl (by decide) rfl ?_
    refine rb_aload_n C dJ9_copyOf_18 rfl 1 rfl ?_
    refine rb_iconst (v := 0) C dJ9_copyOf_19 rfl ?_
    refine rb_aload_n C dJ9_copyOf_20 rfl 0 rfl ?_
    refine rb_iconst (v := 0) C dJ9_copyOf_21 rfl ?_
    refine rb_aload_n C dJ9_copyOf_22 rfl 1 rfl ?_
    obtain ⟨v_10, e_11, hf⟩ := rb_bd hf
    refine rb_hlen (t := 1) C rfl e_11 dJ9_copyOf_23 ?_
    refine rb_iload_n C dJ9_copyOf_24 rfl 2 rfl ?_
    refine rb_mmin C q305 q306 q81 q307 (Nat.le_of_ble_eq_true rfl) (Nat.le_of_ble_eq_true rfl) hb.c0 hb.s0 dJ9_copyOf_25 ?_
    obtain ⟨h_12, e_13, hf⟩ := rb_bd hf
    refine rb_hcpi C 1 q308 q310 q309 q83 rfl rfl e_13 (Nat.le_of_ble_eq_true rfl) (Nat.le_of_ble_eq_true rfl) dJ9_copyOf_28 ?_
    refine rb_aload_n C dJ9_copyOf_31 rfl 0 rfl ?_
    cases hf
    exact rb_aret C rfl (Or.inr ⟨_, rfl⟩) (Or.inr ⟨_, rfl⟩) hb.e.2.1 hb.e.2.2 dJ9_copyOf_32 ⟨rfl, rfl, hb.e.1⟩
  · have hf := (if_pos c_3).symm.trans hf
    refine rb_aload_n C dJ9_copyOf_6 rfl 0 rfl ?_
    obtain ⟨h_14, e_16, hf⟩ := rb_bd hf
    obtain ⟨v_15, e_17, hf⟩ := rb_bd hf
    obtain ⟨a_20, b_21, hf, ea_18, eb_19⟩ := ad_at hf
    refine rb_hcln C 1 q298 q299 q300 q301 q302 q303 an_b rfl e_16 e_17 (Nat.le_of_ble_eq_true rfl) (Nat.le_of_ble_eq_true rfl) (Bd.c1 hb ea_18) (Bd.s1 hb eb_19) dJ9_copyOf_7 ?_
    have hb := Bd.ade hb ea_18 eb_19
    obtain ⟨u_22, e_23, hf⟩ := rb_bd hf
    refine rb_hcaA C 1 q304 an_b e_23 dJ9_copyOf_10 ?_
    cases hf
    exact rb_aret C rfl (Or.inr ⟨_, rfl⟩) (Or.inr ⟨_, rfl⟩) hb.e.2.1 hb.e.2.2 dJ9_copyOf_13 ⟨rfl, rfl, hb.e.1⟩
def f_J0_ensureCapacityInternal (Ev : rb_E) (h : AH) (n : Nat) (o : Nat) (x1 : Int32) : Option (Unit × AH × Nat × Nat) := ((hp_p Ev h o 13 0).bind fun v_1 => ((hp_len Ev h v_1 1).bind fun v_3 => ((hp_i Ev h o 13 1).bind fun v_5 => (if (x1 - ((nI v_3) >>> (v_5 &&& 31))) ≤ 0 then (some ((), h, 0, 0)) else ((hp_p Ev h o 13 0).bind fun v_8 => ((hp_k Ev h o 13).bind fun u_10 => ((f_J0_newCapacity Ev h o x1).bind fun v_13 => ((hp_i Ev h o 13 1).bind fun v_15 => ((f_J9_copyOf Ev h n v_8 (v_13 <<< (v_15 &&& 31))).bind fun (r_18, h_19, k_20, s_21) => (ad k_20 s_21 ((hp_put h_19 o 13 0 (.ref r_18)).bind fun h_27 => (some ((), h_27, 0, 0)))))))))))))
abbrev rm_J0_ensureCapacityInternal (k s : Nat) : Room := { frames := 3, cells := k, slots := s, locals := 108 }
set_option maxHeartbeats 4000000 in
theorem ct_J0_ensureCapacityInternal (Ev : rb_E) (h : AH) (n : Nat) (o : Nat) (x1 : Int32) (r : Unit) (h' : AH) (k s : Nat) (hf : f_J0_ensureCapacityInternal Ev h n o x1 = some (r, h', k, s)) : Ct Ev yJ0_ensureCapacityInternal (ws_ yJ0_ensureCapacityInternal cJ0_ensureCapacityInternal 3 none) (rm_J0_ensureCapacityInternal k s) [.ref o, .int x1] h n (pX (.inl (none)) h' (n + k)) := by
  rw [f_J0_ensureCapacityInternal] at hf
  refine Ct.of rfl (Nat.le_of_ble_eq_true rfl) fun X C hnm => ?_
  have C : Cx Ev X RJ0 cJ0_ensureCapacityInternal 3 none [] := C
  show Wa Ev X (rm_J0_ensureCapacityInternal k s) 3 h n 0 0 (rb_MQ Ev X (rm_J0_ensureCapacityInternal k s) (pX (.inl (none)) h' (n + k))) 0 [(0, .ref o), (1, .int x1)] []
  have hb : Bd (n + k) k s n 0 0 k s := ⟨rfl, Nat.le_of_eq (Nat.zero_add _), Nat.le_of_eq (Nat.zero_add _)⟩
  refine rb_aload_n C dJ0_ensureCapacityInternal_0 rfl 0 rfl ?_
  obtain ⟨v_1, e_2, hf⟩ := rb_bd hf
  refine rb_hP C fl_J0_15_J1 e_2 dJ0_ensureCapacityInternal_1 ?_
  obtain ⟨v_3, e_4, hf⟩ := rb_bd hf
  refine rb_hlen (t := 1) C rfl e_4 dJ0_ensureCapacityInternal_4 ?_
  refine rb_aload_n C dJ0_ensureCapacityInternal_5 rfl 0 rfl ?_
  obtain ⟨v_5, e_6, hf⟩ := rb_bd hf
  refine rb_hI C fl_J0_22_J1 e_6 dJ0_ensureCapacityInternal_6 ?_
  refine rb_ishr C dJ0_ensureCapacityInternal_9 ?_
  refine rb_istore_n (lv' := [(2, .int ((nI v_3) >>> (v_5 &&& 31))), (0, .ref o), (1, .int x1)]) C dJ0_ensureCapacityInternal_10 rfl (by decide) rfl ?_
  refine rb_iload_n C dJ0_ensureCapacityInternal_11 rfl 2 rfl ?_
  refine rb_iload_n C dJ0_ensureCapacityInternal_12 rfl 0 rfl ?_
  refine rb_isub C dJ0_ensureCapacityInternal_13 ?_
  refine rb_if_le (tgt := 38) C dJ0_ensureCapacityInternal_14 (by decide) (fun c_7 => ?_) (fun c_7 => ?_)
  · have hf := (if_pos c_7).symm.trans hf
    cases hf
    exact rb_vret C rfl hb.e.2.1 hb.e.2.2 dJ0_ensureCapacityInternal_38 ⟨rfl, rfl, hb.e.1⟩
  · have hf := (if_neg c_7).symm.trans hf
    refine rb_aload_n C dJ0_ensureCapacityInternal_17 rfl 1 rfl ?_
    refine rb_aload_n C dJ0_ensureCapacityInternal_18 rfl 1 rfl ?_
    obtain ⟨v_8, e_9, hf⟩ := rb_bd hf
    refine rb_hP C fl_J0_15_J1 e_9 dJ0_ensureCapacityInternal_19 ?_
    refine rb_aload_n C dJ0_ensureCapacityInternal_22 rfl 1 rfl ?_
    refine rb_iload_n C dJ0_ensureCapacityInternal_23 rfl 2 rfl ?_
    obtain ⟨u_10, e_11, hf⟩ := rb_bd hf
    obtain ⟨v_13, e_14, hf⟩ := rb_bd hf
    refine rb_callVP (As := [.int x1]) (rest := [.ref v_8, .ref o]) C mi_J0_newCapacity sp_J0_104 (hp_k_isC C.pf e_11 ck_J1) (ct_J0_newCapacity Ev h n o x1 _ e_14) rfl rfl (Nat.le_of_ble_eq_true rfl) ⟨Nat.le_of_ble_eq_true rfl, Nat.le_of_ble_eq_true rfl, hb.c0, hb.s0⟩ dJ0_ensureCapacityInternal_24 rb_xXi (rb_kXi fun hn_12 => (rb_w (kc := 0) (ks := 0) rfl rfl ?_))
    refine rb_aload_n C dJ0_ensureCapacityInternal_27 rfl 1 rfl ?_
    obtain ⟨v_15, e_16, hf⟩ := rb_bd hf
    refine rb_hI C fl_J0_22_J1 e_16 dJ0_ensureCapacityInternal_28 ?_
    refine rb_ishl C dJ0_ensureCapacityInternal_31 ?_
    obtain ⟨⟨r_18, h_19, k_20, s_21⟩, e_22, hf⟩ := rb_bd hf
    obtain ⟨a_25, b_26, hf, ea_23, eb_24⟩ := ad_at hf
    refine rb_callS (As := [.ref v_8, .int (v_13 <<< (v_15 &&& 31))]) (rest := [.ref o]) C mi_J9_copyOf ss_J0_108 (ct_J9_copyOf Ev h n v_8 (v_13 <<< (v_15 &&& 31)) r_18 _ _ _ e_22) rfl rfl (Nat.le_of_ble_eq_true rfl) ⟨Nat.le_of_ble_eq_true rfl, Nat.le_of_ble_eq_true rfl, Bd.c1 hb ea_23, Bd.s1 hb eb_24⟩ dJ0_ensureCapacityInternal_32 rb_xX (rb_kX (rb_w (kc := (0 + k_20)) (ks := (0 + s_21)) rfl rfl ?_))
    have hb := Bd.ade hb ea_23 eb_24
    obtain ⟨h_27, e_28, hf⟩ := rb_bd hf
    refine rb_hput C fw_J0_15_J1 e_28 rfl rfl dJ0_ensureCapacityInternal_35 ?_
    cases hf
    exact rb_vret C rfl hb.e.2.1 hb.e.2.2 dJ0_ensureCapacityInternal_38 ⟨rfl, rfl, hb.e.1⟩
def f_J0_isLatin1 (Ev : rb_E) (h : AH) (o : Nat) : Option Int32 := ((hp_i Ev h o 13 1).bind fun v_1 => (if v_1 = 0 then (some 1) else (some 0)))
abbrev rm_J0_isLatin1 : Room := { frames := 0, cells := 0, slots := 0, locals := 0 }
set_option maxHeartbeats 4000000 in
theorem ct_J0_isLatin1 (Ev : rb_E) (h : AH) (n : Nat) (o : Nat) (r : Int32) (hf : f_J0_isLatin1 Ev h o = some r) : Ct Ev yJ0_isLatin1 (ws_ yJ0_isLatin1 cJ0_isLatin1 1 (some .boolean)) (rm_J0_isLatin1) [.ref o] h n (pXi .boolean r h n) := by
  rw [f_J0_isLatin1] at hf
  refine Ct.of rfl (Nat.le_of_ble_eq_true rfl) fun X C hnm => ?_
  have C : Cx Ev X RJ0 cJ0_isLatin1 1 (some .boolean) [] := C
  show Wa Ev X (rm_J0_isLatin1) 1 h n 0 0 (rb_MQ Ev X (rm_J0_isLatin1) (pXi .boolean r h n)) 0 [(0, .ref o)] []
  refine rb_gets (v := .int 1) C q140 q141 (C.pf.2.2.1.1) dJ0_isLatin1_0 ?_
  refine rb_if_eq (tgt := 17) C dJ0_isLatin1_3 (by decide) (fun c => absurd c (by decide)) (fun _ => ?_)
  refine rb_aload_n C dJ0_isLatin1_6 rfl 0 rfl ?_
  obtain ⟨v_1, e_2, hf⟩ := rb_bd hf
  refine rb_hI C fl_J0_22_J1 e_2 dJ0_isLatin1_7 ?_
  refine rb_if_ne (tgt := 17) C dJ0_isLatin1_10 (by decide) (fun c_3 => ?_) (fun c_3 => ?_)
  · have hf := (if_neg c_3).symm.trans hf
    refine rb_iconst (v := 0) C dJ0_isLatin1_17 rfl ?_
    cases hf
    exact rb_iret C rfl rfl (Nat.zero_le _) (Nat.zero_le _) dJ0_isLatin1_18 ⟨rfl, rfl, rfl, rfl⟩
  · have hf := (if_pos c_3).symm.trans hf
    refine rb_iconst (v := 1) C dJ0_isLatin1_13 rfl ?_
    refine rb_goto (tgt := 18) C dJ0_isLatin1_14 (by decide) ?_
    cases hf
    exact rb_iret C rfl rfl (Nat.zero_le _) (Nat.zero_le _) dJ0_isLatin1_18 ⟨rfl, rfl, rfl, rfl⟩
def f_J3_length (Ev : rb_E) (h : AH) (x0 : Nat) : Option Int32 := ((hp_len Ev h x0 1).bind fun v_1 => (some ((nI v_1) >>> (1 &&& 31))))
abbrev rm_J3_length : Room := { frames := 0, cells := 0, slots := 0, locals := 0 }
set_option maxHeartbeats 4000000 in
theorem ct_J3_length (Ev : rb_E) (h : AH) (n : Nat) (x0 : Nat) (r : Int32) (hf : f_J3_length Ev h x0 = some r) : Ct Ev yJ3_length (ws_ yJ3_length cJ3_length 1 (some .int)) (rm_J3_length) [.ref x0] h n (pXi .int r h n) := by
  rw [f_J3_length] at hf
  refine Ct.of rfl (Nat.le_of_ble_eq_true rfl) fun X C hnm => ?_
  have C : Cx Ev X RJ3 cJ3_length 1 (some .int) [] := C
  show Wa Ev X (rm_J3_length) 1 h n 0 0 (rb_MQ Ev X (rm_J3_length) (pXi .int r h n)) 0 [(0, .ref x0)] []
  refine rb_aload_n C dJ3_length_0 rfl 0 rfl ?_
  obtain ⟨v_1, e_2, hf⟩ := rb_bd hf
  refine rb_hlen (t := 1) C rfl e_2 dJ3_length_1 ?_
  refine rb_iconst (v := 1) C dJ3_length_2 rfl ?_
  refine rb_ishr C dJ3_length_3 ?_
  cases hf
  exact rb_iret C rfl rfl (Nat.zero_le _) (Nat.zero_le _) dJ3_length_4 ⟨rfl, rfl, rfl, rfl⟩
def f_J2_checkBoundsBeginEnd (Ev : rb_E) (h : AH) (x0 : Int32) (x1 : Int32) (x2 : Int32) : Option Unit := ((hp_so Ev "jdk/internal/util/Preconditions" "SIOOBE_FORMATTER").bind fun v_1 => (match v_1 with | none => ((f_J10_checkFromToIndex Ev h x0 x1 x2 none).bind fun v_4 => (some ())) | some v_1_q => ((f_J10_checkFromToIndex Ev h x0 x1 x2 (some v_1_q)).bind fun v_7 => (some ()))))
abbrev rm_J2_checkBoundsBeginEnd : Room := { frames := 1, cells := 0, slots := 0, locals := 23 }
set_option maxHeartbeats 4000000 in
theorem ct_J2_checkBoundsBeginEnd (Ev : rb_E) (h : AH) (n : Nat) (x0 : Int32) (x1 : Int32) (x2 : Int32) (r : Unit) (hf : f_J2_checkBoundsBeginEnd Ev h x0 x1 x2 = some r) : Ct Ev yJ2_checkBoundsBeginEnd (ws_ yJ2_checkBoundsBeginEnd cJ2_checkBoundsBeginEnd 3 none) (rm_J2_checkBoundsBeginEnd) [.int x0, .int x1, .int x2] h n (pX (.inl (none)) h n) := by
  rw [f_J2_checkBoundsBeginEnd] at hf
  refine Ct.of rfl (Nat.le_of_ble_eq_true rfl) fun X C hnm => ?_
  have C : Cx Ev X RJ2 cJ2_checkBoundsBeginEnd 3 none [] := C
  show Wa Ev X (rm_J2_checkBoundsBeginEnd) 3 h n 0 0 (rb_MQ Ev X (rm_J2_checkBoundsBeginEnd) (pX (.inl (none)) h n)) 0 [(0, .int x0), (1, .int x1), (2, .int x2)] []
  refine rb_iload_n C dJ2_checkBoundsBeginEnd_0 rfl 0 rfl ?_
  refine rb_iload_n C dJ2_checkBoundsBeginEnd_1 rfl 1 rfl ?_
  refine rb_iload_n C dJ2_checkBoundsBeginEnd_2 rfl 2 rfl ?_
  obtain ⟨v_1, e_2, hf⟩ := rb_bd hf
  refine rb_hso C q328 q329 e_2 dJ2_checkBoundsBeginEnd_3 ?_
  cases v_1 with
  | none =>
    dsimp only at hf
    obtain ⟨v_4, e_5, hf⟩ := rb_bd hf
    refine rb_callS (As := [.int x0, .int x1, .int x2, .null]) (rest := []) C mi_J10_checkFromToIndex ss_J2_1062 (ct_J10_checkFromToIndex Ev h n x0 x1 x2 none _ e_5) rfl rfl (Nat.le_of_ble_eq_true rfl) ⟨Nat.le_of_ble_eq_true rfl, Nat.le_of_ble_eq_true rfl, (Nat.zero_le _), (Nat.zero_le _)⟩ dJ2_checkBoundsBeginEnd_6 rb_xXi (rb_kXi fun hn_3 => (rb_w (kc := 0) (ks := 0) rfl rfl ?_))
    refine rb_pop C dJ2_checkBoundsBeginEnd_9 rfl ?_
    cases hf
    exact rb_vret C rfl (Nat.zero_le _) (Nat.zero_le _) dJ2_checkBoundsBeginEnd_10 ⟨rfl, rfl, rfl⟩
  | some v_1_q =>
    dsimp only at hf
    obtain ⟨v_7, e_8, hf⟩ := rb_bd hf
    refine rb_callS (As := [.int x0, .int x1, .int x2, .ref v_1_q]) (rest := []) C mi_J10_checkFromToIndex ss_J2_1062 (ct_J10_checkFromToIndex Ev h n x0 x1 x2 (some v_1_q) _ e_8) rfl rfl (Nat.le_of_ble_eq_true rfl) ⟨Nat.le_of_ble_eq_true rfl, Nat.le_of_ble_eq_true rfl, (Nat.zero_le _), (Nat.zero_le _)⟩ dJ2_checkBoundsBeginEnd_6 rb_xXi (rb_kXi fun hn_6 => (rb_w (kc := 0) (ks := 0) rfl rfl ?_))
    refine rb_pop C dJ2_checkBoundsBeginEnd_9 rfl ?_
    cases hf
    exact rb_vret C rfl (Nat.zero_le _) (Nat.zero_le _) dJ2_checkBoundsBeginEnd_10 ⟨rfl, rfl, rfl⟩
def f_J3_checkBoundsBeginEnd (Ev : rb_E) (h : AH) (x0 : Int32) (x1 : Int32) (x2 : Nat) : Option Unit := ((f_J3_length Ev h x2).bind fun v_2 => ((f_J2_checkBoundsBeginEnd Ev h x0 x1 v_2).bind fun v_5 => (some ())))
abbrev rm_J3_checkBoundsBeginEnd : Room := { frames := 2, cells := 0, slots := 0, locals := 45 }
set_option maxHeartbeats 4000000 in
theorem ct_J3_checkBoundsBeginEnd (Ev : rb_E) (h : AH) (n : Nat) (x0 : Int32) (x1 : Int32) (x2 : Nat) (r : Unit) (hf : f_J3_checkBoundsBeginEnd Ev h x0 x1 x2 = some r) : Ct Ev yJ3_checkBoundsBeginEnd (ws_ yJ3_checkBoundsBeginEnd cJ3_checkBoundsBeginEnd 3 none) (rm_J3_checkBoundsBeginEnd) [.int x0, .int x1, .ref x2] h n (pX (.inl (none)) h n) := by
  rw [f_J3_checkBoundsBeginEnd] at hf
  refine Ct.of rfl (Nat.le_of_ble_eq_true rfl) fun X C hnm => ?_
  have C : Cx Ev X RJ3 cJ3_checkBoundsBeginEnd 3 none [] := C
  show Wa Ev X (rm_J3_checkBoundsBeginEnd) 3 h n 0 0 (rb_MQ Ev X (rm_J3_checkBoundsBeginEnd) (pX (.inl (none)) h n)) 0 [(0, .int x0), (1, .int x1), (2, .ref x2)] []
  refine rb_iload_n C dJ3_checkBoundsBeginEnd_0 rfl 0 rfl ?_
  refine rb_iload_n C dJ3_checkBoundsBeginEnd_1 rfl 1 rfl ?_
  refine rb_aload_n C dJ3_checkBoundsBeginEnd_2 rfl 2 rfl ?_
  obtain ⟨v_2, e_3, hf⟩ := rb_bd hf
  refine rb_callS (As := [.ref x2]) (rest := [.int x1, .int x0]) C mi_J3_length ss_J3_48 (ct_J3_length Ev h n x2 _ e_3) rfl rfl (Nat.le_of_ble_eq_true rfl) ⟨Nat.le_of_ble_eq_true rfl, Nat.le_of_ble_eq_true rfl, (Nat.zero_le _), (Nat.zero_le _)⟩ dJ3_checkBoundsBeginEnd_3 rb_xXi (rb_kXi fun hn_1 => (rb_w (kc := 0) (ks := 0) rfl rfl ?_))
  obtain ⟨v_5, e_6, hf⟩ := rb_bd hf
  refine rb_callS (As := [.int x0, .int x1, .int v_2]) (rest := []) C mi_J2_checkBoundsBeginEnd ss_J3_241 (ct_J2_checkBoundsBeginEnd Ev h n x0 x1 v_2 _ e_6) rfl rfl (Nat.le_of_ble_eq_true rfl) ⟨Nat.le_of_ble_eq_true rfl, Nat.le_of_ble_eq_true rfl, (Nat.zero_le _), (Nat.zero_le _)⟩ dJ3_checkBoundsBeginEnd_6 rb_xX (rb_kX (rb_w (kc := 0) (ks := 0) rfl rfl ?_))
  cases hf
  exact rb_vret C rfl (Nat.zero_le _) (Nat.zero_le _) dJ3_checkBoundsBeginEnd_9 ⟨rfl, rfl, rfl⟩
def f_J2_isLatin1 (Ev : rb_E) (h : AH) (o : Nat) : Option Int32 := ((hp_i Ev h o 14 1).bind fun v_1 => (if v_1 = 0 then (some 1) else (some 0)))
abbrev rm_J2_isLatin1 : Room := { frames := 0, cells := 0, slots := 0, locals := 0 }
set_option maxHeartbeats 4000000 in
theorem ct_J2_isLatin1 (Ev : rb_E) (h : AH) (n : Nat) (o : Nat) (r : Int32) (hf : f_J2_isLatin1 Ev h o = some r) : Ct Ev yJ2_isLatin1 (ws_ yJ2_isLatin1 cJ2_isLatin1 1 (some .boolean)) (rm_J2_isLatin1) [.ref o] h n (pXi .boolean r h n) := by
  rw [f_J2_isLatin1] at hf
  refine Ct.of rfl (Nat.le_of_ble_eq_true rfl) fun X C hnm => ?_
  have C : Cx Ev X RJ2 cJ2_isLatin1 1 (some .boolean) [] := C
  show Wa Ev X (rm_J2_isLatin1) 1 h n 0 0 (rb_MQ Ev X (rm_J2_isLatin1) (pXi .boolean r h n)) 0 [(0, .ref o)] []
  refine rb_gets (v := .int 1) C q363 q141 (C.pf.2.2.1.1) dJ2_isLatin1_0 ?_
  refine rb_if_eq (tgt := 17) C dJ2_isLatin1_3 (by decide) (fun c => absurd c (by decide)) (fun _ => ?_)
  refine rb_aload_n C dJ2_isLatin1_6 rfl 0 rfl ?_
  obtain ⟨v_1, e_2, hf⟩ := rb_bd hf
  refine rb_hI C fl_J2_15_J2 e_2 dJ2_isLatin1_7 ?_
  refine rb_if_ne (tgt := 17) C dJ2_isLatin1_10 (by decide) (fun c_3 => ?_) (fun c_3 => ?_)
  · have hf := (if_neg c_3).symm.trans hf
    refine rb_iconst (v := 0) C dJ2_isLatin1_17 rfl ?_
    cases hf
    exact rb_iret C rfl rfl (Nat.zero_le _) (Nat.zero_le _) dJ2_isLatin1_18 ⟨rfl, rfl, rfl, rfl⟩
  · have hf := (if_pos c_3).symm.trans hf
    refine rb_iconst (v := 1) C dJ2_isLatin1_13 rfl ?_
    refine rb_goto (tgt := 18) C dJ2_isLatin1_14 (by decide) ?_
    cases hf
    exact rb_iret C rfl rfl (Nat.zero_le _) (Nat.zero_le _) dJ2_isLatin1_18 ⟨rfl, rfl, rfl, rfl⟩
def f_J10_checkIndex (Ev : rb_E) (h : AH) (x0 : Int32) (x1 : Int32) (x2 : Option Nat) : Option Int32 := (match x2 with | none => (if x0 < 0 then none else (if x0 < x1 then (some x0) else none)) | some x2_q => (if x0 < 0 then none else (if x0 < x1 then (some x0) else none)))
abbrev rm_J10_checkIndex : Room := { frames := 0, cells := 0, slots := 0, locals := 0 }
set_option maxHeartbeats 4000000 in
theorem ct_J10_checkIndex (Ev : rb_E) (h : AH) (n : Nat) (x0 : Int32) (x1 : Int32) (x2 : Option Nat) (r : Int32) (hf : f_J10_checkIndex Ev h x0 x1 x2 = some r) : Ct Ev yJ10_checkIndex (ws_ yJ10_checkIndex cJ10_checkIndex 3 (some .int)) (rm_J10_checkIndex) [.int x0, .int x1, va_rf x2] h n (pXi .int r h n) := by
  unfold f_J10_checkIndex at hf
  cases x2 with
  | none =>
    dsimp only at hf
    refine Ct.of rfl (Nat.le_of_ble_eq_true rfl) fun X C hnm => ?_
    have C : Cx Ev X RJ10 cJ10_checkIndex 3 (some .int) [] := C
    show Wa Ev X (rm_J10_checkIndex) 3 h n 0 0 (rb_MQ Ev X (rm_J10_checkIndex) (pXi .int r h n)) 0 [(0, .int x0), (1, .int x1), (2, .null)] []
    refine rb_iload_n C dJ10_checkIndex_0 rfl 0 rfl ?_
    refine rb_if_lt (tgt := 9) C dJ10_checkIndex_1 (by decide) (fun c_1 => ?_) (fun c_1 => ?_)
    · have hf := (if_pos c_1).symm.trans hf
      cases hf
    · have hf := (if_neg c_1).symm.trans hf
      refine rb_iload_n C dJ10_checkIndex_4 rfl 0 rfl ?_
      refine rb_iload_n C dJ10_checkIndex_5 rfl 1 rfl ?_
      refine rb_icmp_lt (tgt := 16) C dJ10_checkIndex_6 (by decide) (fun c_2 => ?_) (fun c_2 => ?_)
      · have hf := (if_pos c_2).symm.trans hf
        refine rb_iload_n C dJ10_checkIndex_16 rfl 0 rfl ?_
        cases hf
        exact rb_iret C rfl rfl (Nat.zero_le _) (Nat.zero_le _) dJ10_checkIndex_17 ⟨rfl, rfl, rfl, rfl⟩
      · have hf := (if_neg c_2).symm.trans hf
        cases hf
  | some x2_q =>
    dsimp only at hf
    refine Ct.of rfl (Nat.le_of_ble_eq_true rfl) fun X C hnm => ?_
    have C : Cx Ev X RJ10 cJ10_checkIndex 3 (some .int) [] := C
    show Wa Ev X (rm_J10_checkIndex) 3 h n 0 0 (rb_MQ Ev X (rm_J10_checkIndex) (pXi .int r h n)) 0 [(0, .int x0), (1, .int x1), (2, .ref x2_q)] []
    refine rb_iload_n C dJ10_checkIndex_0 rfl 0 rfl ?_
    refine rb_if_lt (tgt := 9) C dJ10_checkIndex_1 (by decide) (fun c_3 => ?_) (fun c_3 => ?_)
    · have hf := (if_pos c_3).symm.trans hf
      cases hf
    · have hf := (if_neg c_3).symm.trans hf
      refine rb_iload_n C dJ10_checkIndex_4 rfl 0 rfl ?_
      refine rb_iload_n C dJ10_checkIndex_5 rfl 1 rfl ?_
      refine rb_icmp_lt (tgt := 16) C dJ10_checkIndex_6 (by decide) (fun c_4 => ?_) (fun c_4 => ?_)
      · have hf := (if_pos c_4).symm.trans hf
        refine rb_iload_n C dJ10_checkIndex_16 rfl 0 rfl ?_
        cases hf
        exact rb_iret C rfl rfl (Nat.zero_le _) (Nat.zero_le _) dJ10_checkIndex_17 ⟨rfl, rfl, rfl, rfl⟩
      · have hf := (if_neg c_4).symm.trans hf
        cases hf
def f_J2_checkIndex (Ev : rb_E) (h : AH) (x0 : Int32) (x1 : Int32) : Option Unit := ((hp_so Ev "jdk/internal/util/Preconditions" "SIOOBE_FORMATTER").bind fun v_1 => (match v_1 with | none => ((f_J10_checkIndex Ev h x0 x1 none).bind fun v_4 => (some ())) | some v_1_q => ((f_J10_checkIndex Ev h x0 x1 (some v_1_q)).bind fun v_7 => (some ()))))
abbrev rm_J2_checkIndex : Room := { frames := 1, cells := 0, slots := 0, locals := 22 }
set_option maxHeartbeats 4000000 in
theorem ct_J2_checkIndex (Ev : rb_E) (h : AH) (n : Nat) (x0 : Int32) (x1 : Int32) (r : Unit) (hf : f_J2_checkIndex Ev h x0 x1 = some r) : Ct Ev yJ2_checkIndex (ws_ yJ2_checkIndex cJ2_checkIndex 2 none) (rm_J2_checkIndex) [.int x0, .int x1] h n (pX (.inl (none)) h n) := by
  rw [f_J2_checkIndex] at hf
  refine Ct.of rfl (Nat.le_of_ble_eq_true rfl) fun X C hnm => ?_
  have C : Cx Ev X RJ2 cJ2_checkIndex 2 none [] := C
  show Wa Ev X (rm_J2_checkIndex) 2 h n 0 0 (rb_MQ Ev X (rm_J2_checkIndex) (pX (.inl (none)) h n)) 0 [(0, .int x0), (1, .int x1)] []
  refine rb_iload_n C dJ2_checkIndex_0 rfl 0 rfl ?_
  refine rb_iload_n C dJ2_checkIndex_1 rfl 1 rfl ?_
  obtain ⟨v_1, e_2, hf⟩ := rb_bd hf
  refine rb_hso C q328 q329 e_2 dJ2_checkIndex_2 ?_
  cases v_1 with
  | none =>
    dsimp only at hf
    obtain ⟨v_4, e_5, hf⟩ := rb_bd hf
    refine rb_callS (As := [.int x0, .int x1, .null]) (rest := []) C mi_J10_checkIndex ss_J2_1059 (ct_J10_checkIndex Ev h n x0 x1 none _ e_5) rfl rfl (Nat.le_of_ble_eq_true rfl) ⟨Nat.le_of_ble_eq_true rfl, Nat.le_of_ble_eq_true rfl, (Nat.zero_le _), (Nat.zero_le _)⟩ dJ2_checkIndex_5 rb_xXi (rb_kXi fun hn_3 => (rb_w (kc := 0) (ks := 0) rfl rfl ?_))
    refine rb_pop C dJ2_checkIndex_8 rfl ?_
    cases hf
    exact rb_vret C rfl (Nat.zero_le _) (Nat.zero_le _) dJ2_checkIndex_9 ⟨rfl, rfl, rfl⟩
  | some v_1_q =>
    dsimp only at hf
    obtain ⟨v_7, e_8, hf⟩ := rb_bd hf
    refine rb_callS (As := [.int x0, .int x1, .ref v_1_q]) (rest := []) C mi_J10_checkIndex ss_J2_1059 (ct_J10_checkIndex Ev h n x0 x1 (some v_1_q) _ e_8) rfl rfl (Nat.le_of_ble_eq_true rfl) ⟨Nat.le_of_ble_eq_true rfl, Nat.le_of_ble_eq_true rfl, (Nat.zero_le _), (Nat.zero_le _)⟩ dJ2_checkIndex_5 rb_xXi (rb_kXi fun hn_6 => (rb_w (kc := 0) (ks := 0) rfl rfl ?_))
    refine rb_pop C dJ2_checkIndex_8 rfl ?_
    cases hf
    exact rb_vret C rfl (Nat.zero_le _) (Nat.zero_le _) dJ2_checkIndex_9 ⟨rfl, rfl, rfl⟩
def f_J3_checkIndex (Ev : rb_E) (h : AH) (x0 : Int32) (x1 : Nat) : Option Unit := ((f_J3_length Ev h x1).bind fun v_2 => ((f_J2_checkIndex Ev h x0 v_2).bind fun v_5 => (some ())))
abbrev rm_J3_checkIndex : Room := { frames := 2, cells := 0, slots := 0, locals := 43 }
set_option maxHeartbeats 4000000 in
theorem ct_J3_checkIndex (Ev : rb_E) (h : AH) (n : Nat) (x0 : Int32) (x1 : Nat) (r : Unit) (hf : f_J3_checkIndex Ev h x0 x1 = some r) : Ct Ev yJ3_checkIndex (ws_ yJ3_checkIndex cJ3_checkIndex 2 none) (rm_J3_checkIndex) [.int x0, .ref x1] h n (pX (.inl (none)) h n) := by
  rw [f_J3_checkIndex] at hf
  refine Ct.of rfl (Nat.le_of_ble_eq_true rfl) fun X C hnm => ?_
  have C : Cx Ev X RJ3 cJ3_checkIndex 2 none [] := C
  show Wa Ev X (rm_J3_checkIndex) 2 h n 0 0 (rb_MQ Ev X (rm_J3_checkIndex) (pX (.inl (none)) h n)) 0 [(0, .int x0), (1, .ref x1)] []
  refine rb_iload_n C dJ3_checkIndex_0 rfl 0 rfl ?_
  refine rb_aload_n C dJ3_checkIndex_1 rfl 1 rfl ?_
  obtain ⟨v_2, e_3, hf⟩ := rb_bd hf
  refine rb_callS (As := [.ref x1]) (rest := [.int x0]) C mi_J3_length ss_J3_48 (ct_J3_length Ev h n x1 _ e_3) rfl rfl (Nat.le_of_ble_eq_true rfl) ⟨Nat.le_of_ble_eq_true rfl, Nat.le_of_ble_eq_true rfl, (Nat.zero_le _), (Nat.zero_le _)⟩ dJ3_checkIndex_2 rb_xXi (rb_kXi fun hn_1 => (rb_w (kc := 0) (ks := 0) rfl rfl ?_))
  obtain ⟨v_5, e_6, hf⟩ := rb_bd hf
  refine rb_callS (As := [.int x0, .int v_2]) (rest := []) C mi_J2_checkIndex ss_J3_414 (ct_J2_checkIndex Ev h n x0 v_2 _ e_6) rfl rfl (Nat.le_of_ble_eq_true rfl) ⟨Nat.le_of_ble_eq_true rfl, Nat.le_of_ble_eq_true rfl, (Nat.zero_le _), (Nat.zero_le _)⟩ dJ3_checkIndex_5 rb_xX (rb_kX (rb_w (kc := 0) (ks := 0) rfl rfl ?_))
  cases hf
  exact rb_vret C rfl (Nat.zero_le _) (Nat.zero_le _) dJ3_checkIndex_8 ⟨rfl, rfl, rfl⟩
def f_J3_getChar (Ev : rb_E) (h : AH) (x0 : Nat) (x1 : Int32) : Option Int32 := ((hp_bl Ev h x0 (x1 <<< (1 &&& 31))).bind fun v_1 => ((hp_bl Ev h x0 ((x1 <<< (1 &&& 31)) + 1)).bind fun v_3 => (some (((((v_1 &&& 255) <<< (0 &&& 31)) ||| ((v_3 &&& 255) <<< (8 &&& 31))).toUInt32 % 65536).toInt32))))
abbrev rm_J3_getChar : Room := { frames := 0, cells := 0, slots := 0, locals := 0 }
set_option maxHeartbeats 4000000 in
theorem ct_J3_getChar (Ev : rb_E) (h : AH) (n : Nat) (x0 : Nat) (x1 : Int32) (r : Int32) (hf : f_J3_getChar Ev h x0 x1 = some r) : Ct Ev yJ3_getChar (ws_ yJ3_getChar cJ3_getChar 2 (some .char)) (rm_J3_getChar) [.ref x0, .int x1] h n (pXi .char r h n) := by
  rw [f_J3_getChar] at hf
  refine Ct.of rfl (Nat.le_of_ble_eq_true rfl) fun X C hnm => ?_
  have C : Cx Ev X RJ3 cJ3_getChar 2 (some .char) [] := C
  show Wa Ev X (rm_J3_getChar) 2 h n 0 0 (rb_MQ Ev X (rm_J3_getChar) (pXi .char r h n)) 0 [(0, .ref x0), (1, .int x1)] []
  refine rb_gets (v := .int 1) C q336 q337 (C.pf.2.2.1.2.2.2.1) dJ3_getChar_0 ?_
  refine rb_if_ne (tgt := 28) C dJ3_getChar_3 (by decide) (fun _ => ?_) (fun c => absurd c (by decide)) 
  refine rb_iload_n C dJ3_getChar_28 rfl 1 rfl ?_
  refine rb_iconst (v := 1) C dJ3_getChar_29 rfl ?_
  refine rb_ishl C dJ3_getChar_30 ?_
  refine rb_istore_n (lv' := [(1, .int (x1 <<< (1 &&& 31))), (0, .ref x0)]) C dJ3_getChar_31 rfl (by decide) rfl ?_
  refine rb_aload_n C dJ3_getChar_32 rfl 1 rfl ?_
  refine rb_iload_n C dJ3_getChar_33 rfl 0 rfl ?_
  refine rb_iinc (v := ((x1 <<< (1 &&& 31)) + 1)) (lv' := [(1, .int ((x1 <<< (1 &&& 31)) + 1)), (0, .ref x0)]) C dJ3_getChar_34 (k := 0) rfl rfl (by decide) rfl ?_
  obtain ⟨v_1, e_2, hf⟩ := rb_bd hf
  refine rb_hbl C e_2 dJ3_getChar_37 ?_
  refine rb_sipush (v := 255) C dJ3_getChar_38 rfl ?_
  refine rb_iand C dJ3_getChar_41 ?_
  refine rb_gets (v := .int 0) C q338 q339 (C.pf.2.2.1.2.1) dJ3_getChar_42 ?_
  refine rb_ishl C dJ3_getChar_45 ?_
  refine rb_aload_n C dJ3_getChar_46 rfl 1 rfl ?_
  refine rb_iload_n C dJ3_getChar_47 rfl 0 rfl ?_
  obtain ⟨v_3, e_4, hf⟩ := rb_bd hf
  refine rb_hbl C e_4 dJ3_getChar_48 ?_
  refine rb_sipush (v := 255) C dJ3_getChar_49 rfl ?_
  refine rb_iand C dJ3_getChar_52 ?_
  refine rb_gets (v := .int 8) C q340 q341 (C.pf.2.2.1.2.2.1) dJ3_getChar_53 ?_
  refine rb_ishl C dJ3_getChar_56 ?_
  refine rb_ior C dJ3_getChar_57 ?_
  refine rb_i2c (v := ((((v_1 &&& 255) <<< (0 &&& 31)) ||| ((v_3 &&& 255) <<< (8 &&& 31))).toUInt32 % 65536).toInt32) C dJ3_getChar_58 rfl ?_
  have hc_5 : narrow .char (.int ((((v_1 &&& 255) <<< (0 &&& 31)) ||| ((v_3 &&& 255) <<< (8 &&& 31))).toUInt32 % 65536).toInt32) = .int ((((v_1 &&& 255) <<< (0 &&& 31)) ||| ((v_3 &&& 255) <<< (8 &&& 31))).toUInt32 % 65536).toInt32 := pk_nc (((v_1 &&& 255) <<< (0 &&& 31)) ||| ((v_3 &&& 255) <<< (8 &&& 31)))
  cases hf
  exact rb_iret C rfl hc_5 (Nat.zero_le _) (Nat.zero_le _) dJ3_getChar_59 ⟨rfl, rfl, rfl, hc_5⟩
def f_J3_charAt (Ev : rb_E) (h : AH) (x0 : Nat) (x1 : Int32) : Option Int32 := ((f_J3_checkIndex Ev h x1 x0).bind fun v_2 => ((f_J3_getChar Ev h x0 x1).bind fun v_5 => (some v_5)))
abbrev rm_J3_charAt : Room := { frames := 3, cells := 0, slots := 0, locals := 64 }
set_option maxHeartbeats 4000000 in
theorem ct_J3_charAt (Ev : rb_E) (h : AH) (n : Nat) (x0 : Nat) (x1 : Int32) (r : Int32) (hf : f_J3_charAt Ev h x0 x1 = some r) : Ct Ev yJ3_charAt (ws_ yJ3_charAt cJ3_charAt 2 (some .char)) (rm_J3_charAt) [.ref x0, .int x1] h n (pXi .char r h n) := by
  rw [f_J3_charAt] at hf
  refine Ct.of rfl (Nat.le_of_ble_eq_true rfl) fun X C hnm => ?_
  have C : Cx Ev X RJ3 cJ3_charAt 2 (some .char) [] := C
  show Wa Ev X (rm_J3_charAt) 2 h n 0 0 (rb_MQ Ev X (rm_J3_charAt) (pXi .char r h n)) 0 [(0, .ref x0), (1, .int x1)] []
  refine rb_iload_n C dJ3_charAt_0 rfl 1 rfl ?_
  refine rb_aload_n C dJ3_charAt_1 rfl 0 rfl ?_
  obtain ⟨v_2, e_3, hf⟩ := rb_bd hf
  refine rb_callS (As := [.int x1, .ref x0]) (rest := []) C mi_J3_checkIndex ss_J3_67 (ct_J3_checkIndex Ev h n x1 x0 _ e_3) rfl rfl (Nat.le_of_ble_eq_true rfl) ⟨Nat.le_of_ble_eq_true rfl, Nat.le_of_ble_eq_true rfl, (Nat.zero_le _), (Nat.zero_le _)⟩ dJ3_charAt_2 rb_xX (rb_kX (rb_w (kc := 0) (ks := 0) rfl rfl ?_))
  refine rb_aload_n C dJ3_charAt_5 rfl 0 rfl ?_
  refine rb_iload_n C dJ3_charAt_6 rfl 1 rfl ?_
  obtain ⟨v_5, e_6, hf⟩ := rb_bd hf
  refine rb_callS (As := [.ref x0, .int x1]) (rest := []) C mi_J3_getChar ss_J3_71 (ct_J3_getChar Ev h n x0 x1 _ e_6) rfl rfl (Nat.le_of_ble_eq_true rfl) ⟨Nat.le_of_ble_eq_true rfl, Nat.le_of_ble_eq_true rfl, (Nat.zero_le _), (Nat.zero_le _)⟩ dJ3_charAt_7 rb_xXi (rb_kXi fun hn_4 => (rb_w (kc := 0) (ks := 0) rfl rfl ?_))
  cases hf
  exact rb_iret C rfl hn_4 (Nat.zero_le _) (Nat.zero_le _) dJ3_charAt_10 ⟨rfl, rfl, rfl, hn_4⟩
def f_J11_charAt (Ev : rb_E) (h : AH) (x0 : Nat) (x1 : Int32) : Option Int32 := ((hp_len Ev h x0 1).bind fun v_1 => ((f_J2_checkIndex Ev h x1 (nI v_1)).bind fun v_4 => ((hp_bl Ev h x0 x1).bind fun v_6 => (some (((v_6 &&& 255).toUInt32 % 65536).toInt32)))))
abbrev rm_J11_charAt : Room := { frames := 2, cells := 0, slots := 0, locals := 43 }
set_option maxHeartbeats 4000000 in
theorem ct_J11_charAt (Ev : rb_E) (h : AH) (n : Nat) (x0 : Nat) (x1 : Int32) (r : Int32) (hf : f_J11_charAt Ev h x0 x1 = some r) : Ct Ev yJ11_charAt (ws_ yJ11_charAt cJ11_charAt 2 (some .char)) (rm_J11_charAt) [.ref x0, .int x1] h n (pXi .char r h n) := by
  rw [f_J11_charAt] at hf
  refine Ct.of rfl (Nat.le_of_ble_eq_true rfl) fun X C hnm => ?_
  have C : Cx Ev X RJ11 cJ11_charAt 2 (some .char) [] := C
  show Wa Ev X (rm_J11_charAt) 2 h n 0 0 (rb_MQ Ev X (rm_J11_charAt) (pXi .char r h n)) 0 [(0, .ref x0), (1, .int x1)] []
  refine rb_iload_n C dJ11_charAt_0 rfl 1 rfl ?_
  refine rb_aload_n C dJ11_charAt_1 rfl 0 rfl ?_
  obtain ⟨v_1, e_2, hf⟩ := rb_bd hf
  refine rb_hlen (t := 1) C rfl e_2 dJ11_charAt_2 ?_
  obtain ⟨v_4, e_5, hf⟩ := rb_bd hf
  refine rb_callS (As := [.int x1, .int (nI v_1)]) (rest := []) C mi_J2_checkIndex ss_J11_9 (ct_J2_checkIndex Ev h n x1 (nI v_1) _ e_5) rfl rfl (Nat.le_of_ble_eq_true rfl) ⟨Nat.le_of_ble_eq_true rfl, Nat.le_of_ble_eq_true rfl, (Nat.zero_le _), (Nat.zero_le _)⟩ dJ11_charAt_3 rb_xX (rb_kX (rb_w (kc := 0) (ks := 0) rfl rfl ?_))
  refine rb_aload_n C dJ11_charAt_6 rfl 0 rfl ?_
  refine rb_iload_n C dJ11_charAt_7 rfl 1 rfl ?_
  obtain ⟨v_6, e_7, hf⟩ := rb_bd hf
  refine rb_hbl C e_7 dJ11_charAt_8 ?_
  refine rb_sipush (v := 255) C dJ11_charAt_9 rfl ?_
  refine rb_iand C dJ11_charAt_12 ?_
  refine rb_i2c (v := ((v_6 &&& 255).toUInt32 % 65536).toInt32) C dJ11_charAt_13 rfl ?_
  have hc_8 : narrow .char (.int ((v_6 &&& 255).toUInt32 % 65536).toInt32) = .int ((v_6 &&& 255).toUInt32 % 65536).toInt32 := pk_nc (v_6 &&& 255)
  cases hf
  exact rb_iret C rfl hc_8 (Nat.zero_le _) (Nat.zero_le _) dJ11_charAt_14 ⟨rfl, rfl, rfl, hc_8⟩
def f_J2_charAt (Ev : rb_E) (h : AH) (o : Nat) (x1 : Int32) : Option Int32 := ((hp_k Ev h o 14).bind fun u_1 => ((f_J2_isLatin1 Ev h o).bind fun v_4 => (if v_4 = 0 then ((hp_p Ev h o 14 0).bind fun v_7 => ((f_J3_charAt Ev h v_7 x1).bind fun v_10 => (some v_10))) else ((hp_p Ev h o 14 0).bind fun v_12 => ((f_J11_charAt Ev h v_12 x1).bind fun v_15 => (some v_15))))))
abbrev rm_J2_charAt : Room := { frames := 4, cells := 0, slots := 0, locals := 85 }
set_option maxHeartbeats 4000000 in
theorem ct_J2_charAt (Ev : rb_E) (h : AH) (n : Nat) (o : Nat) (x1 : Int32) (r : Int32) (hf : f_J2_charAt Ev h o x1 = some r) : Ct Ev yJ2_charAt (ws_ yJ2_charAt cJ2_charAt 2 (some .char)) (rm_J2_charAt) [.ref o, .int x1] h n (pXi .char r h n) := by
  rw [f_J2_charAt] at hf
  refine Ct.of rfl (Nat.le_of_ble_eq_true rfl) fun X C hnm => ?_
  have C : Cx Ev X RJ2 cJ2_charAt 2 (some .char) [] := C
  show Wa Ev X (rm_J2_charAt) 2 h n 0 0 (rb_MQ Ev X (rm_J2_charAt) (pXi .char r h n)) 0 [(0, .ref o), (1, .int x1)] []
  refine rb_aload_n C dJ2_charAt_0 rfl 0 rfl ?_
  obtain ⟨u_1, e_2, hf⟩ := rb_bd hf
  obtain ⟨v_4, e_5, hf⟩ := rb_bd hf
  refine rb_callV (As := []) (rest := []) C mi_J2_isLatin1 sv_J2_492 (hp_k_isC C.pf e_2 ck_J2) (ct_J2_isLatin1 Ev h n o _ e_5) rfl rfl (Nat.le_of_ble_eq_true rfl) ⟨Nat.le_of_ble_eq_true rfl, Nat.le_of_ble_eq_true rfl, (Nat.zero_le _), (Nat.zero_le _)⟩ dJ2_charAt_1 rb_xXi (rb_kXi fun hn_3 => (rb_w (kc := 0) (ks := 0) rfl rfl ?_))
  refine rb_if_eq (tgt := 16) C dJ2_charAt_4 (by decide) (fun c_6 => ?_) (fun c_6 => ?_)
  · have hf := (if_pos c_6).symm.trans hf
    refine rb_aload_n C dJ2_charAt_16 rfl 0 rfl ?_
    obtain ⟨v_7, e_8, hf⟩ := rb_bd hf
    refine rb_hP C fl_J2_9_J2 e_8 dJ2_charAt_17 ?_
    refine rb_iload_n C dJ2_charAt_20 rfl 1 rfl ?_
    obtain ⟨v_10, e_11, hf⟩ := rb_bd hf
    refine rb_callS (As := [.ref v_7, .int x1]) (rest := []) C mi_J3_charAt ss_J2_498 (ct_J3_charAt Ev h n v_7 x1 _ e_11) rfl rfl (Nat.le_of_ble_eq_true rfl) ⟨Nat.le_of_ble_eq_true rfl, Nat.le_of_ble_eq_true rfl, (Nat.zero_le _), (Nat.zero_le _)⟩ dJ2_charAt_21 rb_xXi (rb_kXi fun hn_9 => (rb_w (kc := 0) (ks := 0) rfl rfl ?_))
    cases hf
    exact rb_iret C rfl hn_9 (Nat.zero_le _) (Nat.zero_le _) dJ2_charAt_24 ⟨rfl, rfl, rfl, hn_9⟩
  · have hf := (if_neg c_6).symm.trans hf
    refine rb_aload_n C dJ2_charAt_7 rfl 0 rfl ?_
    obtain ⟨v_12, e_13, hf⟩ := rb_bd hf
    refine rb_hP C fl_J2_9_J2 e_13 dJ2_charAt_8 ?_
    refine rb_iload_n C dJ2_charAt_11 rfl 1 rfl ?_
    obtain ⟨v_15, e_16, hf⟩ := rb_bd hf
    refine rb_callS (As := [.ref v_12, .int x1]) (rest := []) C mi_J11_charAt ss_J2_495 (ct_J11_charAt Ev h n v_12 x1 _ e_16) rfl rfl (Nat.le_of_ble_eq_true rfl) ⟨Nat.le_of_ble_eq_true rfl, Nat.le_of_ble_eq_true rfl, (Nat.zero_le _), (Nat.zero_le _)⟩ dJ2_charAt_12 rb_xXi (rb_kXi fun hn_14 => (rb_w (kc := 0) (ks := 0) rfl rfl ?_))
    cases hf
    exact rb_iret C rfl hn_14 (Nat.zero_le _) (Nat.zero_le _) dJ2_charAt_15 ⟨rfl, rfl, rfl, hn_14⟩
def f_J3_putChar (Ev : rb_E) (h : AH) (n : Nat) (x0 : Nat) (x1 : Int32) (x2 : Int32) : Option (Unit × AH × Nat × Nat) := ((hp_bs Ev h x0 (x1 <<< (1 &&& 31)) ((x2 >>> (0 &&& 31)).toInt8.toInt32)).bind fun h_1 => ((hp_bs Ev h_1 x0 ((x1 <<< (1 &&& 31)) + 1) ((x2 >>> (8 &&& 31)).toInt8.toInt32)).bind fun h_3 => (some ((), h_3, 0, 0))))
abbrev rm_J3_putChar (k s : Nat) : Room := { frames := 0, cells := k, slots := s, locals := 0 }
set_option maxHeartbeats 4000000 in
theorem ct_J3_putChar (Ev : rb_E) (h : AH) (n : Nat) (x0 : Nat) (x1 : Int32) (x2 : Int32) (r : Unit) (h' : AH) (k s : Nat) (hf : f_J3_putChar Ev h n x0 x1 x2 = some (r, h', k, s)) : Ct Ev yJ3_putChar (ws_ yJ3_putChar cJ3_putChar 3 none) (rm_J3_putChar k s) [.ref x0, .int x1, .int x2] h n (pX (.inl (none)) h' (n + k)) := by
  rw [f_J3_putChar] at hf
  refine Ct.of rfl (Nat.le_of_ble_eq_true rfl) fun X C hnm => ?_
  have C : Cx Ev X RJ3 cJ3_putChar 3 none [] := C
  show Wa Ev X (rm_J3_putChar k s) 3 h n 0 0 (rb_MQ Ev X (rm_J3_putChar k s) (pX (.inl (none)) h' (n + k))) 0 [(0, .ref x0), (1, .int x1), (2, .int x2)] []
  have hb : Bd (n + k) k s n 0 0 k s := ⟨rfl, Nat.le_of_eq (Nat.zero_add _), Nat.le_of_eq (Nat.zero_add _)⟩
  refine rb_gets (v := .int 1) C q336 q337 (C.pf.2.2.1.2.2.2.1) dJ3_putChar_0 ?_
  refine rb_if_ne (tgt := 28) C dJ3_putChar_3 (by decide) (fun _ => ?_) (fun c => absurd c (by decide)) 
  refine rb_iload_n C dJ3_putChar_28 rfl 1 rfl ?_
  refine rb_iconst (v := 1) C dJ3_putChar_29 rfl ?_
  refine rb_ishl C dJ3_putChar_30 ?_
  refine rb_istore_n (lv' := [(1, .int (x1 <<< (1 &&& 31))), (0, .ref x0), (2, .int x2)]) C dJ3_putChar_31 rfl (by decide) rfl ?_
  refine rb_aload_n C dJ3_putChar_32 rfl 1 rfl ?_
  refine rb_iload_n C dJ3_putChar_33 rfl 0 rfl ?_
  refine rb_iinc (v := ((x1 <<< (1 &&& 31)) + 1)) (lv' := [(1, .int ((x1 <<< (1 &&& 31)) + 1)), (0, .ref x0), (2, .int x2)]) C dJ3_putChar_34 (k := 0) rfl rfl (by decide) rfl ?_
  refine rb_iload_n C dJ3_putChar_37 rfl 2 rfl ?_
  refine rb_gets (v := .int 0) C q338 q339 (C.pf.2.2.1.2.1) dJ3_putChar_38 ?_
  refine rb_ishr C dJ3_putChar_41 ?_
  refine rb_i2b (v := (x2 >>> (0 &&& 31)).toInt8.toInt32) C dJ3_putChar_42 rfl ?_
  obtain ⟨h_1, e_2, hf⟩ := rb_bd hf
  refine rb_hbs C e_2 dJ3_putChar_43 ?_
  refine rb_aload_n C dJ3_putChar_44 rfl 1 rfl ?_
  refine rb_iload_n C dJ3_putChar_45 rfl 0 rfl ?_
  refine rb_iload_n C dJ3_putChar_46 rfl 2 rfl ?_
  refine rb_gets (v := .int 8) C q340 q341 (C.pf.2.2.1.2.2.1) dJ3_putChar_47 ?_
  refine rb_ishr C dJ3_putChar_50 ?_
  refine rb_i2b (v := (x2 >>> (8 &&& 31)).toInt8.toInt32) C dJ3_putChar_51 rfl ?_
  obtain ⟨h_3, e_4, hf⟩ := rb_bd hf
  refine rb_hbs C e_4 dJ3_putChar_52 ?_
  cases hf
  exact rb_vret C rfl hb.e.2.1 hb.e.2.2 dJ3_putChar_53 ⟨rfl, rfl, hb.e.1⟩
def f_J0_charAt (Ev : rb_E) (h : AH) (o : Nat) (x1 : Int32) : Option Int32 := ((hp_i Ev h o 13 1).bind fun v_1 => ((hp_p Ev h o 13 0).bind fun v_3 => ((hp_i Ev h o 13 3).bind fun v_5 => ((hp_len Ev h v_3 1).bind fun v_7 => ((f_J2_checkIndex Ev h x1 (if ((nI v_7) >>> (v_1 &&& 31)) < v_5 then ((nI v_7) >>> (v_1 &&& 31)) else v_5)).bind fun v_10 => (if v_1 = 0 then ((hp_bl Ev h v_3 x1).bind fun v_16 => (some (((v_16 &&& 255).toUInt32 % 65536).toInt32))) else ((f_J3_getChar Ev h v_3 x1).bind fun v_14 => (some v_14))))))))
abbrev rm_J0_charAt : Room := { frames := 2, cells := 0, slots := 0, locals := 60 }
set_option maxHeartbeats 4000000 in
theorem ct_J0_charAt (Ev : rb_E) (h : AH) (n : Nat) (o : Nat) (x1 : Int32) (r : Int32) (hf : f_J0_charAt Ev h o x1 = some r) : Ct Ev yJ0_charAt (ws_ yJ0_charAt cJ0_charAt 5 (some .char)) (rm_J0_charAt) [.ref o, .int x1] h n (pXi .char r h n) := by
  rw [f_J0_charAt] at hf
  refine Ct.of rfl (Nat.le_of_ble_eq_true rfl) fun X C hnm => ?_
  have C : Cx Ev X RJ0 cJ0_charAt 5 (some .char) [] := C
  show Wa Ev X (rm_J0_charAt) 5 h n 0 0 (rb_MQ Ev X (rm_J0_charAt) (pXi .char r h n)) 0 [(0, .ref o), (1, .int x1)] []
  refine rb_aload_n C dJ0_charAt_0 rfl 0 rfl ?_
  obtain ⟨v_1, e_2, hf⟩ := rb_bd hf
  refine rb_hI C fl_J0_22_J1 e_2 dJ0_charAt_1 ?_
  refine rb_istore_n (lv' := [(2, .int v_1), (0, .ref o), (1, .int x1)]) C dJ0_charAt_4 rfl (by decide) rfl ?_
  refine rb_aload_n C dJ0_charAt_5 rfl 1 rfl ?_
  obtain ⟨v_3, e_4, hf⟩ := rb_bd hf
  refine rb_hP C fl_J0_15_J1 e_4 dJ0_charAt_6 ?_
  refine rb_astore_n (lv' := [(3, .ref v_3), (2, .int v_1), (0, .ref o), (1, .int x1)]) C dJ0_charAt_9 rfl (by decide) rfl ?_
  refine rb_aload_n C dJ0_charAt_10 rfl 2 rfl ?_
  obtain ⟨v_5, e_6, hf⟩ := rb_bd hf
  refine rb_hI C fl_J0_79_J1 e_6 dJ0_charAt_11 ?_
  refine rb_aload_n C dJ0_charAt_14 rfl 0 rfl ?_
  obtain ⟨v_7, e_8, hf⟩ := rb_bd hf
  refine rb_hlen (t := 1) C rfl e_8 dJ0_charAt_15 ?_
  refine rb_iload_n C dJ0_charAt_16 rfl 1 rfl ?_
  refine rb_ishr C dJ0_charAt_17 ?_
  refine rb_mmin C q512 q306 q81 q307 (Nat.le_of_ble_eq_true rfl) (Nat.le_of_ble_eq_true rfl) (Nat.zero_le _) (Nat.zero_le _) dJ0_charAt_18 ?_
  refine rb_istore (lv' := [(4, .int (if ((nI v_7) >>> (v_1 &&& 31)) < v_5 then ((nI v_7) >>> (v_1 &&& 31)) else v_5)), (3, .ref v_3), (2, .int v_1), (0, .ref o), (1, .int x1)]) C dJ0_charAt_21 (by decide) rfl ?_
  refine rb_iload_n C dJ0_charAt_23 rfl 4 rfl ?_
  refine rb_iload C dJ0_charAt_24 0 rfl ?_
  obtain ⟨v_10, e_11, hf⟩ := rb_bd hf
  refine rb_callS (As := [.int x1, .int (if ((nI v_7) >>> (v_1 &&& 31)) < v_5 then ((nI v_7) >>> (v_1 &&& 31)) else v_5)]) (rest := []) C mi_J2_checkIndex ss_J0_144 (ct_J2_checkIndex Ev h n x1 (if ((nI v_7) >>> (v_1 &&& 31)) < v_5 then ((nI v_7) >>> (v_1 &&& 31)) else v_5) _ e_11) rfl rfl (Nat.le_of_ble_eq_true rfl) ⟨Nat.le_of_ble_eq_true rfl, Nat.le_of_ble_eq_true rfl, (Nat.zero_le _), (Nat.zero_le _)⟩ dJ0_charAt_26 rb_xX (rb_kX (rb_w (kc := 0) (ks := 0) rfl rfl ?_))
  refine rb_iload_n C dJ0_charAt_29 rfl 2 rfl ?_
  refine rb_if_ne (tgt := 42) C dJ0_charAt_30 (by decide) (fun c_12 => ?_) (fun c_12 => ?_)
  · have hf := (if_neg c_12).symm.trans hf
    refine rb_aload_n C dJ0_charAt_42 rfl 1 rfl ?_
    refine rb_iload_n C dJ0_charAt_43 rfl 4 rfl ?_
    obtain ⟨v_14, e_15, hf⟩ := rb_bd hf
    refine rb_callS (As := [.ref v_3, .int x1]) (rest := []) C mi_J3_getChar ss_J0_148 (ct_J3_getChar Ev h n v_3 x1 _ e_15) rfl rfl (Nat.le_of_ble_eq_true rfl) ⟨Nat.le_of_ble_eq_true rfl, Nat.le_of_ble_eq_true rfl, (Nat.zero_le _), (Nat.zero_le _)⟩ dJ0_charAt_44 rb_xXi (rb_kXi fun hn_13 => (rb_w (kc := 0) (ks := 0) rfl rfl ?_))
    cases hf
    exact rb_iret C rfl hn_13 (Nat.zero_le _) (Nat.zero_le _) dJ0_charAt_47 ⟨rfl, rfl, rfl, hn_13⟩
  · have hf := (if_pos c_12).symm.trans hf
    refine rb_aload_n C dJ0_charAt_33 rfl 1 rfl ?_
    refine rb_iload_n C dJ0_charAt_34 rfl 4 rfl ?_
    obtain ⟨v_16, e_17, hf⟩ := rb_bd hf
    refine rb_hbl C e_17 dJ0_charAt_35 ?_
    refine rb_sipush (v := 255) C dJ0_charAt_36 rfl ?_
    refine rb_iand C dJ0_charAt_39 ?_
    refine rb_i2c (v := ((v_16 &&& 255).toUInt32 % 65536).toInt32) C dJ0_charAt_40 rfl ?_
    have hc_18 : narrow .char (.int ((v_16 &&& 255).toUInt32 % 65536).toInt32) = .int ((v_16 &&& 255).toUInt32 % 65536).toInt32 := pk_nc (v_16 &&& 255)
    cases hf
    exact rb_iret C rfl hc_18 (Nat.zero_le _) (Nat.zero_le _) dJ0_charAt_41 ⟨rfl, rfl, rfl, hc_18⟩
def f_J1_charAt (Ev : rb_E) (h : AH) (o : Nat) (x1 : Int32) : Option Int32 := ((hp_k Ev h o 13).bind fun u_1 => ((f_J0_charAt Ev h o x1).bind fun v_4 => (some v_4)))
abbrev rm_J1_charAt : Room := { frames := 3, cells := 0, slots := 0, locals := 84 }
set_option maxHeartbeats 4000000 in
theorem ct_J1_charAt (Ev : rb_E) (h : AH) (n : Nat) (o : Nat) (x1 : Int32) (r : Int32) (hf : f_J1_charAt Ev h o x1 = some r) : Ct Ev yJ1_charAt (ws_ yJ1_charAt cJ1_charAt 2 (some .char)) (rm_J1_charAt) [.ref o, .int x1] h n (pXi .char r h n) := by
  rw [f_J1_charAt] at hf
  refine Ct.of rfl (Nat.le_of_ble_eq_true rfl) fun X C hnm => ?_
  have C : Cx Ev X RJ1 cJ1_charAt 2 (some .char) [] := C
  show Wa Ev X (rm_J1_charAt) 2 h n 0 0 (rb_MQ Ev X (rm_J1_charAt) (pXi .char r h n)) 0 [(0, .ref o), (1, .int x1)] []
  refine rb_aload_n C dJ1_charAt_0 rfl 0 rfl ?_
  refine rb_iload_n C dJ1_charAt_1 rfl 1 rfl ?_
  obtain ⟨u_1, e_2, hf⟩ := rb_bd hf
  obtain ⟨v_4, e_5, hf⟩ := rb_bd hf
  refine rb_callSU (As := [.int x1]) (rest := []) C mi_J0_charAt sx_J1_329 ck_J1 (hp_k_isC C.pf e_2 ck_J1) (ct_J0_charAt Ev h n o x1 _ e_5) rfl rfl (Nat.le_of_ble_eq_true rfl) ⟨Nat.le_of_ble_eq_true rfl, Nat.le_of_ble_eq_true rfl, (Nat.zero_le _), (Nat.zero_le _)⟩ dJ1_charAt_2 rb_xXi (rb_kXi fun hn_3 => (rb_w (kc := 0) (ks := 0) rfl rfl ?_))
  cases hf
  exact rb_iret C rfl hn_3 (Nat.zero_le _) (Nat.zero_le _) dJ1_charAt_5 ⟨rfl, rfl, rfl, hn_3⟩
def f_J3_putCharsSB_l14_4 (Ev : rb_E) (x0 : Nat) (x2 : Nat) (x4 : Int32) : Nat → Int32 → Int32 → AH → Nat → Option (Unit × AH × Nat × Nat)
  | 0, _, _, _, _ => none
  | k_l14_4 + 1, y1_l14_4, y5_l14_4, h_l14_4, n_l14_4 => (if x4 ≤ y5_l14_4 then (some ((), h_l14_4, 0, 0)) else ((hp_cls Ev h_l14_4 x2).bind fun v_6 => (if v_6 = 14 then ((f_J2_charAt Ev h_l14_4 x2 y5_l14_4).bind fun v_10 => ((f_J3_putChar Ev h_l14_4 n_l14_4 x0 y1_l14_4 v_10).bind fun (r_13, h_14, k_15, s_16) => (ad k_15 s_16 ((f_J3_putCharsSB_l14_4 Ev x0 x2 x4 k_l14_4) (y1_l14_4 + 1) (y5_l14_4 + 1) h_14 (n_l14_4 + k_15))))) else (if v_6 = 13 then ((f_J1_charAt Ev h_l14_4 x2 y5_l14_4).bind fun v_24 => ((f_J3_putChar Ev h_l14_4 n_l14_4 x0 y1_l14_4 v_24).bind fun (r_27, h_28, k_29, s_30) => (ad k_29 s_30 ((f_J3_putCharsSB_l14_4 Ev x0 x2 x4 k_l14_4) (y1_l14_4 + 1) (y5_l14_4 + 1) h_28 (n_l14_4 + k_29))))) else none))))
def f_J3_putCharsSB (Ev : rb_E) (h : AH) (n : Nat) (x0 : Nat) (x1 : Int32) (x2 : Nat) (x3 : Int32) (x4 : Int32) : Option (Unit × AH × Nat × Nat) := ((f_J3_checkBoundsBeginEnd Ev h x1 ((x1 + x4) - x3) x0).bind fun v_2 => (f_J3_putCharsSB_l14_4 Ev x0 x2 x4 4096 x1 x3 h n))
abbrev rm_J3_putCharsSB (k s : Nat) : Room := { frames := 5, cells := k, slots := s, locals := 106 }
set_option maxHeartbeats 4000000 in
theorem ct_J3_putCharsSB (Ev : rb_E) (h : AH) (n : Nat) (x0 : Nat) (x1 : Int32) (x2 : Nat) (x3 : Int32) (x4 : Int32) (r : Unit) (h' : AH) (k s : Nat) (hf : f_J3_putCharsSB Ev h n x0 x1 x2 x3 x4 = some (r, h', k, s)) : Ct Ev yJ3_putCharsSB (ws_ yJ3_putCharsSB cJ3_putCharsSB 6 none) (rm_J3_putCharsSB k s) [.ref x0, .int x1, .ref x2, .int x3, .int x4] h n (pX (.inl (none)) h' (n + k)) := by
  rw [f_J3_putCharsSB] at hf
  refine Ct.of rfl (Nat.le_of_ble_eq_true rfl) fun X C hnm => ?_
  have C : Cx Ev X RJ3 cJ3_putCharsSB 6 none [] := C
  show Wa Ev X (rm_J3_putCharsSB k s) 6 h n 0 0 (rb_MQ Ev X (rm_J3_putCharsSB k s) (pX (.inl (none)) h' (n + k))) 0 [(0, .ref x0), (1, .int x1), (2, .ref x2), (3, .int x3), (4, .int x4)] []
  have hb : Bd (n + k) k s n 0 0 k s := ⟨rfl, Nat.le_of_eq (Nat.zero_add _), Nat.le_of_eq (Nat.zero_add _)⟩
  refine rb_iload_n C dJ3_putCharsSB_0 rfl 1 rfl ?_
  refine rb_iload_n C dJ3_putCharsSB_1 rfl 1 rfl ?_
  refine rb_iload C dJ3_putCharsSB_2 4 rfl ?_
  refine rb_iadd C dJ3_putCharsSB_4 ?_
  refine rb_iload_n C dJ3_putCharsSB_5 rfl 3 rfl ?_
  refine rb_isub C dJ3_putCharsSB_6 ?_
  refine rb_aload_n C dJ3_putCharsSB_7 rfl 0 rfl ?_
  obtain ⟨v_2, e_3, hf⟩ := rb_bd hf
  refine rb_callS (As := [.int x1, .int ((x1 + x4) - x3), .ref x0]) (rest := []) C mi_J3_checkBoundsBeginEnd ss_J3_96 (ct_J3_checkBoundsBeginEnd Ev h n x1 ((x1 + x4) - x3) x0 _ e_3) rfl rfl (Nat.le_of_ble_eq_true rfl) ⟨Nat.le_of_ble_eq_true rfl, Nat.le_of_ble_eq_true rfl, hb.c0, hb.s0⟩ dJ3_putCharsSB_8 rb_xX (rb_kX (rb_w (kc := 0) (ks := 0) rfl rfl ?_))
  refine rb_iload_n C dJ3_putCharsSB_11 rfl 3 rfl ?_
  refine rb_istore (lv' := [(5, .int x3), (0, .ref x0), (1, .int x1), (2, .ref x2), (3, .int x3), (4, .int x4)]) C dJ3_putCharsSB_12 (by decide) rfl ?_
  have L_l14_4 : ∀ (k_l14_4 : Nat) (y1_l14_4 : Int32) (y5_l14_4 : Int32) (h_l14_4 : AH) (n_l14_4 kc_l14_4 ks_l14_4 a_ b_ : Nat), f_J3_putCharsSB_l14_4 Ev x0 x2 x4 k_l14_4 y1_l14_4 y5_l14_4 h_l14_4 n_l14_4 = some (r, h', a_, b_) → Bd (n + k) k s n_l14_4 kc_l14_4 ks_l14_4 a_ b_ → Wa Ev X (rm_J3_putCharsSB k s) 6 h_l14_4 n_l14_4 kc_l14_4 ks_l14_4 (rb_MQ Ev X (rm_J3_putCharsSB k s) (pX (.inl (none)) h' (n + k))) 14 [(0, .ref x0), (1, .int y1_l14_4), (2, .ref x2), (3, .int x3), (4, .int x4), (5, .int y5_l14_4)] [] := by
    intro k_l14_4
    induction k_l14_4 with
    | zero => intro y1_l14_4 y5_l14_4 h_l14_4 n_l14_4 kc_l14_4 ks_l14_4 a_ b_ hf hb; cases hf
    | succ k_l14_4 ih_l14_4 =>
      intro y1_l14_4 y5_l14_4 h_l14_4 n_l14_4 kc_l14_4 ks_l14_4 a_ b_ hf hb
      rw [f_J3_putCharsSB_l14_4] at hf
      refine rb_iload C dJ3_putCharsSB_14 5 rfl ?_
      refine rb_iload C dJ3_putCharsSB_16 4 rfl ?_
      refine rb_icmp_ge (tgt := 43) C dJ3_putCharsSB_18 (by decide) (fun c_5 => ?_) (fun c_5 => ?_)
      · have hf := (if_pos c_5).symm.trans hf
        cases hf
        exact rb_vret C rfl hb.e.2.1 hb.e.2.2 dJ3_putCharsSB_43 ⟨rfl, rfl, hb.e.1⟩
      · have hf := (if_neg c_5).symm.trans hf
        refine rb_aload_n C dJ3_putCharsSB_21 rfl 0 rfl ?_
        refine rb_iload_n C dJ3_putCharsSB_22 rfl 1 rfl ?_
        refine rb_iinc (v := (y1_l14_4 + 1)) (lv' := [(1, .int (y1_l14_4 + 1)), (0, .ref x0), (2, .ref x2), (3, .int x3), (4, .int x4), (5, .int y5_l14_4)]) C dJ3_putCharsSB_23 (k := 1) rfl rfl (by decide) rfl ?_
        refine rb_aload_n C dJ3_putCharsSB_26 rfl 2 rfl ?_
        refine rb_iload C dJ3_putCharsSB_27 5 rfl ?_
        obtain ⟨v_6, e_7, hf⟩ := rb_bd hf
        by_cases c_8 : v_6 = 14
        · have hf := (if_pos c_8).symm.trans hf
          subst c_8
          obtain ⟨v_10, e_11, hf⟩ := rb_bd hf
          refine rb_callF (As := [.int y5_l14_4]) (rest := [.int y1_l14_4, .ref x0]) C mi_J2_charAt sf_J3_388_J2 ck_J2 (hp_cls_isC C.pf e_7 ck_J2) (ct_J2_charAt Ev h_l14_4 n_l14_4 x2 y5_l14_4 _ e_11) rfl rfl (Nat.le_of_ble_eq_true rfl) ⟨Nat.le_of_ble_eq_true rfl, Nat.le_of_ble_eq_true rfl, hb.c0, hb.s0⟩ dJ3_putCharsSB_29 rb_xXi (rb_kXi fun hn_9 => (rb_w (kc := kc_l14_4) (ks := ks_l14_4) rfl rfl ?_))
          obtain ⟨⟨r_13, h_14, k_15, s_16⟩, e_17, hf⟩ := rb_bd hf
          obtain ⟨a_20, b_21, hf, ea_18, eb_19⟩ := ad_at hf
          refine rb_callS (As := [.ref x0, .int y1_l14_4, .int v_10]) (rest := []) C mi_J3_putChar ss_J3_111 (ct_J3_putChar Ev h_l14_4 n_l14_4 x0 y1_l14_4 v_10 r_13 _ _ _ e_17) rfl rfl (Nat.le_of_ble_eq_true rfl) ⟨Nat.le_of_ble_eq_true rfl, Nat.le_of_ble_eq_true rfl, Bd.c1 hb ea_18, Bd.s1 hb eb_19⟩ dJ3_putCharsSB_34 rb_xX (rb_kX (rb_w (kc := (kc_l14_4 + k_15)) (ks := (ks_l14_4 + s_16)) rfl rfl ?_))
          have hb := Bd.ade hb ea_18 eb_19
          refine rb_iinc (v := (y5_l14_4 + 1)) (lv' := [(5, .int (y5_l14_4 + 1)), (1, .int (y1_l14_4 + 1)), (0, .ref x0), (2, .ref x2), (3, .int x3), (4, .int x4)]) C dJ3_putCharsSB_37 (k := 5) rfl rfl (by decide) rfl ?_
          refine rb_goto (tgt := 14) C dJ3_putCharsSB_40 (by decide) ?_
          refine rb_sub [2, 1, 3, 4, 5, 0] rfl ?_
          exact ih_l14_4 (y1_l14_4 + 1) (y5_l14_4 + 1) h_14 (n_l14_4 + k_15) _ _ _ _ hf hb
        have hf := (if_neg c_8).symm.trans hf
        by_cases c_22 : v_6 = 13
        · have hf := (if_pos c_22).symm.trans hf
          subst c_22
          obtain ⟨v_24, e_25, hf⟩ := rb_bd hf
          refine rb_callF (As := [.int y5_l14_4]) (rest := [.int y1_l14_4, .ref x0]) C mi_J1_charAt sf_J3_388_J1 ck_J1 (hp_cls_isC C.pf e_7 ck_J1) (ct_J1_charAt Ev h_l14_4 n_l14_4 x2 y5_l14_4 _ e_25) rfl rfl (Nat.le_of_ble_eq_true rfl) ⟨Nat.le_of_ble_eq_true rfl, Nat.le_of_ble_eq_true rfl, hb.c0, hb.s0⟩ dJ3_putCharsSB_29 rb_xXi (rb_kXi fun hn_23 => (rb_w (kc := kc_l14_4) (ks := ks_l14_4) rfl rfl ?_))
          obtain ⟨⟨r_27, h_28, k_29, s_30⟩, e_31, hf⟩ := rb_bd hf
          obtain ⟨a_34, b_35, hf, ea_32, eb_33⟩ := ad_at hf
          refine rb_callS (As := [.ref x0, .int y1_l14_4, .int v_24]) (rest := []) C mi_J3_putChar ss_J3_111 (ct_J3_putChar Ev h_l14_4 n_l14_4 x0 y1_l14_4 v_24 r_27 _ _ _ e_31) rfl rfl (Nat.le_of_ble_eq_true rfl) ⟨Nat.le_of_ble_eq_true rfl, Nat.le_of_ble_eq_true rfl, Bd.c1 hb ea_32, Bd.s1 hb eb_33⟩ dJ3_putCharsSB_34 rb_xX (rb_kX (rb_w (kc := (kc_l14_4 + k_29)) (ks := (ks_l14_4 + s_30)) rfl rfl ?_))
          have hb := Bd.ade hb ea_32 eb_33
          refine rb_iinc (v := (y5_l14_4 + 1)) (lv' := [(5, .int (y5_l14_4 + 1)), (1, .int (y1_l14_4 + 1)), (0, .ref x0), (2, .ref x2), (3, .int x3), (4, .int x4)]) C dJ3_putCharsSB_37 (k := 5) rfl rfl (by decide) rfl ?_
          refine rb_goto (tgt := 14) C dJ3_putCharsSB_40 (by decide) ?_
          refine rb_sub [2, 1, 3, 4, 5, 0] rfl ?_
          exact ih_l14_4 (y1_l14_4 + 1) (y5_l14_4 + 1) h_28 (n_l14_4 + k_29) _ _ _ _ hf hb
        have hf := (if_neg c_22).symm.trans hf
        cases hf
  refine rb_sub [1, 2, 3, 4, 5, 0] rfl ?_
  exact L_l14_4 4096 x1 x3 h n _ _ _ _ hf hb
def f_J11_canEncode (x0 : Int32) : Int32 := (if 255 < x0 then 0 else 1)
abbrev rm_J11_canEncode : Room := { frames := 0, cells := 0, slots := 0, locals := 0 }
set_option maxHeartbeats 4000000 in
theorem ct_J11_canEncode (Ev : rb_E) (h : AH) (n : Nat) (x0 : Int32) (r : Int32) (hf : f_J11_canEncode x0 = r) : Ct Ev yJ11_canEncode (ws_ yJ11_canEncode cJ11_canEncode 1 (some .boolean)) (rm_J11_canEncode) [.int x0] h n (pXi .boolean r h n) := by
  rw [f_J11_canEncode] at hf
  refine Ct.of rfl (Nat.le_of_ble_eq_true rfl) fun X C hnm => ?_
  have C : Cx Ev X RJ11 cJ11_canEncode 1 (some .boolean) [] := C
  show Wa Ev X (rm_J11_canEncode) 1 h n 0 0 (rb_MQ Ev X (rm_J11_canEncode) (pXi .boolean r h n)) 0 [(0, .int x0)] []
  refine rb_iload_n C dJ11_canEncode_0 rfl 0 rfl ?_
  refine rb_sipush (v := 255) C dJ11_canEncode_1 rfl ?_
  refine rb_icmp_gt (tgt := 11) C dJ11_canEncode_4 (by decide) (fun c_1 => ?_) (fun c_1 => ?_)
  · have hf := (if_pos c_1).symm.trans hf
    refine rb_iconst (v := 0) C dJ11_canEncode_11 rfl ?_
    subst hf
    exact rb_iret C rfl rfl (Nat.zero_le _) (Nat.zero_le _) dJ11_canEncode_12 ⟨rfl, rfl, rfl, rfl⟩
  · have hf := (if_neg c_1).symm.trans hf
    refine rb_iconst (v := 1) C dJ11_canEncode_7 rfl ?_
    refine rb_goto (tgt := 12) C dJ11_canEncode_8 (by decide) ?_
    subst hf
    exact rb_iret C rfl rfl (Nat.zero_le _) (Nat.zero_le _) dJ11_canEncode_12 ⟨rfl, rfl, rfl, rfl⟩
def f_J3_newBytesLength (Ev : rb_E) (h : AH) (x0 : Int32) : Option Int32 := (if 0 ≤ x0 then (if x0 < 1073741823 then (some (x0 <<< (1 &&& 31))) else none) else none)
abbrev rm_J3_newBytesLength : Room := { frames := 0, cells := 0, slots := 0, locals := 0 }
set_option maxHeartbeats 4000000 in
theorem ct_J3_newBytesLength (Ev : rb_E) (h : AH) (n : Nat) (x0 : Int32) (r : Int32) (hf : f_J3_newBytesLength Ev h x0 = some r) : Ct Ev yJ3_newBytesLength (ws_ yJ3_newBytesLength cJ3_newBytesLength 1 (some .int)) (rm_J3_newBytesLength) [.int x0] h n (pXi .int r h n) := by
  rw [f_J3_newBytesLength] at hf
  refine Ct.of rfl (Nat.le_of_ble_eq_true rfl) fun X C hnm => ?_
  have C : Cx Ev X RJ3 cJ3_newBytesLength 1 (some .int) [] := C
  show Wa Ev X (rm_J3_newBytesLength) 1 h n 0 0 (rb_MQ Ev X (rm_J3_newBytesLength) (pXi .int r h n)) 0 [(0, .int x0)] []
  refine rb_iload_n C dJ3_newBytesLength_0 rfl 0 rfl ?_
  refine rb_if_ge (tgt := 12) C dJ3_newBytesLength_1 (by decide) (fun c_1 => ?_) (fun c_1 => ?_)
  · have hf := (if_pos c_1).symm.trans hf
    refine rb_iload_n C dJ3_newBytesLength_12 rfl 0 rfl ?_
    refine rb_ldc C q148 dJ3_newBytesLength_13 ?_
    refine rb_icmp_lt (tgt := 55) C dJ3_newBytesLength_15 (by decide) (fun c_2 => ?_) (fun c_2 => ?_)
    · have hf := (if_pos c_2).symm.trans hf
      refine rb_iload_n C dJ3_newBytesLength_55 rfl 0 rfl ?_
      refine rb_iconst (v := 1) C dJ3_newBytesLength_56 rfl ?_
      refine rb_ishl C dJ3_newBytesLength_57 ?_
      cases hf
      exact rb_iret C rfl rfl (Nat.zero_le _) (Nat.zero_le _) dJ3_newBytesLength_58 ⟨rfl, rfl, rfl, rfl⟩
    · have hf := (if_neg c_2).symm.trans hf
      cases hf
  · have hf := (if_neg c_1).symm.trans hf
    cases hf
def f_J3_newBytesFor (Ev : rb_E) (h : AH) (n : Nat) (x0 : Int32) : Option (Nat × AH × Nat × Nat) := ((f_J3_newBytesLength Ev h x0).bind fun v_2 => (if v_2 < 0 ∨ 65536 < v_2.toNatClampNeg then none else (ad 1 v_2.toNatClampNeg (rb_lt (va_up h n (some (.inl (eA Ev 1, v_2.toNatClampNeg, .inl (fun _ => 0))))) fun h_9 => (some (n, h_9, 0, 0))))))
abbrev rm_J3_newBytesFor (k s : Nat) : Room := { frames := 1, cells := k, slots := s, locals := 20 }
set_option maxHeartbeats 4000000 in
theorem ct_J3_newBytesFor (Ev : rb_E) (h : AH) (n : Nat) (x0 : Int32) (r : Nat) (h' : AH) (k s : Nat) (hf : f_J3_newBytesFor Ev h n x0 = some (r, h', k, s)) : Ct Ev yJ3_newBytesFor (ws_ yJ3_newBytesFor cJ3_newBytesFor 1 (some (.array .byte))) (rm_J3_newBytesFor k s) [.int x0] h n (pX (.inl (some (.ref r))) h' (n + k)) := by
  rw [f_J3_newBytesFor] at hf
  refine Ct.of rfl (Nat.le_of_ble_eq_true rfl) fun X C hnm => ?_
  have C : Cx Ev X RJ3 cJ3_newBytesFor 1 (some (.array .byte)) [] := C
  show Wa Ev X (rm_J3_newBytesFor k s) 1 h n 0 0 (rb_MQ Ev X (rm_J3_newBytesFor k s) (pX (.inl (some (.ref r))) h' (n + k))) 0 [(0, .int x0)] []
  have hb : Bd (n + k) k s n 0 0 k s := ⟨rfl, Nat.le_of_eq (Nat.zero_add _), Nat.le_of_eq (Nat.zero_add _)⟩
  refine rb_iload_n C dJ3_newBytesFor_0 rfl 0 rfl ?_
  obtain ⟨v_2, e_3, hf⟩ := rb_bd hf
  refine rb_callS (As := [.int x0]) (rest := []) C mi_J3_newBytesLength ss_J3_11 (ct_J3_newBytesLength Ev h n x0 _ e_3) rfl rfl (Nat.le_of_ble_eq_true rfl) ⟨Nat.le_of_ble_eq_true rfl, Nat.le_of_ble_eq_true rfl, hb.c0, hb.s0⟩ dJ3_newBytesFor_1 rb_xXi (rb_kXi fun hn_1 => (rb_w (kc := 0) (ks := 0) rfl rfl ?_))
  by_cases c_g_4 : v_2 < 0 ∨ 65536 < v_2.toNatClampNeg
  · exact absurd ((if_pos c_g_4).symm.trans hf) (fun z => by cases z)
  have hf := (if_neg c_g_4).symm.trans hf
  obtain ⟨a_7, b_8, hf, ea_5, eb_6⟩ := ad_at hf
  refine rb_hnewa (atype := .byte) C 1 rfl rfl rfl q163 c_g_4 (v_2.toNatClampNeg, .inl (fun _ => 0)) (fun _ => rfl) (Bd.c1 hb ea_5) (Bd.s1 hb eb_6) dJ3_newBytesFor_4 ?_
  have hb := Bd.ade hb ea_5 eb_6
  obtain ⟨h_9, e_h_9⟩ : ∃ z, z = (va_up h n (some (.inl (eA Ev 1, v_2.toNatClampNeg, .inl (fun _ => 0))))) := ⟨_, rfl⟩
  rw [← e_h_9]
  have hf := rb_let hf e_h_9
  cases hf
  exact rb_aret C rfl (Or.inr ⟨_, rfl⟩) (Or.inr ⟨_, rfl⟩) hb.e.2.1 hb.e.2.2 dJ3_newBytesFor_6 ⟨rfl, rfl, hb.e.1⟩
def f_J10_checkFromIndexSize (Ev : rb_E) (h : AH) (x0 : Int32) (x1 : Int32) (x2 : Int32) (x3 : Option Nat) : Option Int32 := (match x3 with | none => (if ((x2 ||| x0) ||| x1) < 0 then none else (if x1 ≤ (x2 - x0) then (some x0) else none)) | some x3_q => (if ((x2 ||| x0) ||| x1) < 0 then none else (if x1 ≤ (x2 - x0) then (some x0) else none)))
abbrev rm_J10_checkFromIndexSize : Room := { frames := 0, cells := 0, slots := 0, locals := 0 }
set_option maxHeartbeats 4000000 in
theorem ct_J10_checkFromIndexSize (Ev : rb_E) (h : AH) (n : Nat) (x0 : Int32) (x1 : Int32) (x2 : Int32) (x3 : Option Nat) (r : Int32) (hf : f_J10_checkFromIndexSize Ev h x0 x1 x2 x3 = some r) : Ct Ev yJ10_checkFromIndexSize (ws_ yJ10_checkFromIndexSize cJ10_checkFromIndexSize 4 (some .int)) (rm_J10_checkFromIndexSize) [.int x0, .int x1, .int x2, va_rf x3] h n (pXi .int r h n) := by
  unfold f_J10_checkFromIndexSize at hf
  cases x3 with
  | none =>
    dsimp only at hf
    refine Ct.of rfl (Nat.le_of_ble_eq_true rfl) fun X C hnm => ?_
    have C : Cx Ev X RJ10 cJ10_checkFromIndexSize 4 (some .int) [] := C
    show Wa Ev X (rm_J10_checkFromIndexSize) 4 h n 0 0 (rb_MQ Ev X (rm_J10_checkFromIndexSize) (pXi .int r h n)) 0 [(0, .int x0), (1, .int x1), (2, .int x2), (3, .null)] []
    refine rb_iload_n C dJ10_checkFromIndexSize_0 rfl 2 rfl ?_
    refine rb_iload_n C dJ10_checkFromIndexSize_1 rfl 0 rfl ?_
    refine rb_ior C dJ10_checkFromIndexSize_2 ?_
    refine rb_iload_n C dJ10_checkFromIndexSize_3 rfl 1 rfl ?_
    refine rb_ior C dJ10_checkFromIndexSize_4 ?_
    refine rb_if_lt (tgt := 15) C dJ10_checkFromIndexSize_5 (by decide) (fun c_1 => ?_) (fun c_1 => ?_)
    · have hf := (if_pos c_1).symm.trans hf
      cases hf
    · have hf := (if_neg c_1).symm.trans hf
      refine rb_iload_n C dJ10_checkFromIndexSize_8 rfl 1 rfl ?_
      refine rb_iload_n C dJ10_checkFromIndexSize_9 rfl 2 rfl ?_
      refine rb_iload_n C dJ10_checkFromIndexSize_10 rfl 0 rfl ?_
      refine rb_isub C dJ10_checkFromIndexSize_11 ?_
      refine rb_icmp_le (tgt := 23) C dJ10_checkFromIndexSize_12 (by decide) (fun c_2 => ?_) (fun c_2 => ?_)
      · have hf := (if_pos c_2).symm.trans hf
        refine rb_iload_n C dJ10_checkFromIndexSize_23 rfl 0 rfl ?_
        cases hf
        exact rb_iret C rfl rfl (Nat.zero_le _) (Nat.zero_le _) dJ10_checkFromIndexSize_24 ⟨rfl, rfl, rfl, rfl⟩
      · have hf := (if_neg c_2).symm.trans hf
        cases hf
  | some x3_q =>
    dsimp only at hf
    refine Ct.of rfl (Nat.le_of_ble_eq_true rfl) fun X C hnm => ?_
    have C : Cx Ev X RJ10 cJ10_checkFromIndexSize 4 (some .int) [] := C
    show Wa Ev X (rm_J10_checkFromIndexSize) 4 h n 0 0 (rb_MQ Ev X (rm_J10_checkFromIndexSize) (pXi .int r h n)) 0 [(0, .int x0), (1, .int x1), (2, .int x2), (3, .ref x3_q)] []
    refine rb_iload_n C dJ10_checkFromIndexSize_0 rfl 2 rfl ?_
    refine rb_iload_n C dJ10_checkFromIndexSize_1 rfl 0 rfl ?_
    refine rb_ior C dJ10_checkFromIndexSize_2 ?_
    refine rb_iload_n C dJ10_checkFromIndexSize_3 rfl 1 rfl ?_
    refine rb_ior C dJ10_checkFromIndexSize_4 ?_
    refine rb_if_lt (tgt := 15) C dJ10_checkFromIndexSize_5 (by decide) (fun c_3 => ?_) (fun c_3 => ?_)
    · have hf := (if_pos c_3).symm.trans hf
      cases hf
    · have hf := (if_neg c_3).symm.trans hf
      refine rb_iload_n C dJ10_checkFromIndexSize_8 rfl 1 rfl ?_
      refine rb_iload_n C dJ10_checkFromIndexSize_9 rfl 2 rfl ?_
      refine rb_iload_n C dJ10_checkFromIndexSize_10 rfl 0 rfl ?_
      refine rb_isub C dJ10_checkFromIndexSize_11 ?_
      refine rb_icmp_le (tgt := 23) C dJ10_checkFromIndexSize_12 (by decide) (fun c_4 => ?_) (fun c_4 => ?_)
      · have hf := (if_pos c_4).symm.trans hf
        refine rb_iload_n C dJ10_checkFromIndexSize_23 rfl 0 rfl ?_
        cases hf
        exact rb_iret C rfl rfl (Nat.zero_le _) (Nat.zero_le _) dJ10_checkFromIndexSize_24 ⟨rfl, rfl, rfl, rfl⟩
      · have hf := (if_neg c_4).symm.trans hf
        cases hf
def f_J2_checkBoundsOffCount (Ev : rb_E) (h : AH) (x0 : Int32) (x1 : Int32) (x2 : Int32) : Option Int32 := ((hp_so Ev "jdk/internal/util/Preconditions" "SIOOBE_FORMATTER").bind fun v_1 => (match v_1 with | none => ((f_J10_checkFromIndexSize Ev h x0 x1 x2 none).bind fun v_4 => (some v_4)) | some v_1_q => ((f_J10_checkFromIndexSize Ev h x0 x1 x2 (some v_1_q)).bind fun v_7 => (some v_7))))
abbrev rm_J2_checkBoundsOffCount : Room := { frames := 1, cells := 0, slots := 0, locals := 23 }
set_option maxHeartbeats 4000000 in
theorem ct_J2_checkBoundsOffCount (Ev : rb_E) (h : AH) (n : Nat) (x0 : Int32) (x1 : Int32) (x2 : Int32) (r : Int32) (hf : f_J2_checkBoundsOffCount Ev h x0 x1 x2 = some r) : Ct Ev yJ2_checkBoundsOffCount (ws_ yJ2_checkBoundsOffCount cJ2_checkBoundsOffCount 3 (some .int)) (rm_J2_checkBoundsOffCount) [.int x0, .int x1, .int x2] h n (pXi .int r h n) := by
  rw [f_J2_checkBoundsOffCount] at hf
  refine Ct.of rfl (Nat.le_of_ble_eq_true rfl) fun X C hnm => ?_
  have C : Cx Ev X RJ2 cJ2_checkBoundsOffCount 3 (some .int) [] := C
  show Wa Ev X (rm_J2_checkBoundsOffCount) 3 h n 0 0 (rb_MQ Ev X (rm_J2_checkBoundsOffCount) (pXi .int r h n)) 0 [(0, .int x0), (1, .int x1), (2, .int x2)] []
  refine rb_iload_n C dJ2_checkBoundsOffCount_0 rfl 0 rfl ?_
  refine rb_iload_n C dJ2_checkBoundsOffCount_1 rfl 1 rfl ?_
  refine rb_iload_n C dJ2_checkBoundsOffCount_2 rfl 2 rfl ?_
  obtain ⟨v_1, e_2, hf⟩ := rb_bd hf
  refine rb_hso C q328 q329 e_2 dJ2_checkBoundsOffCount_3 ?_
  cases v_1 with
  | none =>
    dsimp only at hf
    obtain ⟨v_4, e_5, hf⟩ := rb_bd hf
    refine rb_callS (As := [.int x0, .int x1, .int x2, .null]) (rest := []) C mi_J10_checkFromIndexSize ss_J2_1065 (ct_J10_checkFromIndexSize Ev h n x0 x1 x2 none _ e_5) rfl rfl (Nat.le_of_ble_eq_true rfl) ⟨Nat.le_of_ble_eq_true rfl, Nat.le_of_ble_eq_true rfl, (Nat.zero_le _), (Nat.zero_le _)⟩ dJ2_checkBoundsOffCount_6 rb_xXi (rb_kXi fun hn_3 => (rb_w (kc := 0) (ks := 0) rfl rfl ?_))
    cases hf
    exact rb_iret C rfl rfl (Nat.zero_le _) (Nat.zero_le _) dJ2_checkBoundsOffCount_9 ⟨rfl, rfl, rfl, rfl⟩
  | some v_1_q =>
    dsimp only at hf
    obtain ⟨v_7, e_8, hf⟩ := rb_bd hf
    refine rb_callS (As := [.int x0, .int x1, .int x2, .ref v_1_q]) (rest := []) C mi_J10_checkFromIndexSize ss_J2_1065 (ct_J10_checkFromIndexSize Ev h n x0 x1 x2 (some v_1_q) _ e_8) rfl rfl (Nat.le_of_ble_eq_true rfl) ⟨Nat.le_of_ble_eq_true rfl, Nat.le_of_ble_eq_true rfl, (Nat.zero_le _), (Nat.zero_le _)⟩ dJ2_checkBoundsOffCount_6 rb_xXi (rb_kXi fun hn_6 => (rb_w (kc := 0) (ks := 0) rfl rfl ?_))
    cases hf
    exact rb_iret C rfl rfl (Nat.zero_le _) (Nat.zero_le _) dJ2_checkBoundsOffCount_9 ⟨rfl, rfl, rfl, rfl⟩
def f_J3_checkBoundsOffCount (Ev : rb_E) (h : AH) (x0 : Int32) (x1 : Int32) (x2 : Nat) : Option Unit := ((f_J3_length Ev h x2).bind fun v_2 => ((f_J2_checkBoundsOffCount Ev h x0 x1 v_2).bind fun v_5 => (some ())))
abbrev rm_J3_checkBoundsOffCount : Room := { frames := 2, cells := 0, slots := 0, locals := 45 }
set_option maxHeartbeats 4000000 in
theorem ct_J3_checkBoundsOffCount (Ev : rb_E) (h : AH) (n : Nat) (x0 : Int32) (x1 : Int32) (x2 : Nat) (r : Unit) (hf : f_J3_checkBoundsOffCount Ev h x0 x1 x2 = some r) : Ct Ev yJ3_checkBoundsOffCount (ws_ yJ3_checkBoundsOffCount cJ3_checkBoundsOffCount 3 none) (rm_J3_checkBoundsOffCount) [.int x0, .int x1, .ref x2] h n (pX (.inl (none)) h n) := by
  rw [f_J3_checkBoundsOffCount] at hf
  refine Ct.of rfl (Nat.le_of_ble_eq_true rfl) fun X C hnm => ?_
  have C : Cx Ev X RJ3 cJ3_checkBoundsOffCount 3 none [] := C
  show Wa Ev X (rm_J3_checkBoundsOffCount) 3 h n 0 0 (rb_MQ Ev X (rm_J3_checkBoundsOffCount) (pX (.inl (none)) h n)) 0 [(0, .int x0), (1, .int x1), (2, .ref x2)] []
  refine rb_iload_n C dJ3_checkBoundsOffCount_0 rfl 0 rfl ?_
  refine rb_iload_n C dJ3_checkBoundsOffCount_1 rfl 1 rfl ?_
  refine rb_aload_n C dJ3_checkBoundsOffCount_2 rfl 2 rfl ?_
  obtain ⟨v_2, e_3, hf⟩ := rb_bd hf
  refine rb_callS (As := [.ref x2]) (rest := [.int x1, .int x0]) C mi_J3_length ss_J3_48 (ct_J3_length Ev h n x2 _ e_3) rfl rfl (Nat.le_of_ble_eq_true rfl) ⟨Nat.le_of_ble_eq_true rfl, Nat.le_of_ble_eq_true rfl, (Nat.zero_le _), (Nat.zero_le _)⟩ dJ3_checkBoundsOffCount_3 rb_xXi (rb_kXi fun hn_1 => (rb_w (kc := 0) (ks := 0) rfl rfl ?_))
  obtain ⟨v_5, e_6, hf⟩ := rb_bd hf
  refine rb_callS (As := [.int x0, .int x1, .int v_2]) (rest := []) C mi_J2_checkBoundsOffCount ss_J3_419 (ct_J2_checkBoundsOffCount Ev h n x0 x1 v_2 _ e_6) rfl rfl (Nat.le_of_ble_eq_true rfl) ⟨Nat.le_of_ble_eq_true rfl, Nat.le_of_ble_eq_true rfl, (Nat.zero_le _), (Nat.zero_le _)⟩ dJ3_checkBoundsOffCount_6 rb_xXi (rb_kXi fun hn_4 => (rb_w (kc := 0) (ks := 0) rfl rfl ?_))
  refine rb_pop C dJ3_checkBoundsOffCount_9 rfl ?_
  cases hf
  exact rb_vret C rfl (Nat.zero_le _) (Nat.zero_le _) dJ3_checkBoundsOffCount_10 ⟨rfl, rfl, rfl⟩
def f_J3_inflate_l10_4 (Ev : rb_E) (x0 : Nat) (x2 : Nat) (x4 : Int32) : Nat → Int32 → Int32 → Int32 → AH → Nat → Option (Unit × AH × Nat × Nat)
  | 0, _, _, _, _, _ => none
  | k_l10_4 + 1, y1_l10_4, y3_l10_4, y5_l10_4, h_l10_4, n_l10_4 => (if x4 ≤ y5_l10_4 then (some ((), h_l10_4, 0, 0)) else ((hp_bl Ev h_l10_4 x0 y1_l10_4).bind fun v_6 => ((f_J3_putChar Ev h_l10_4 n_l10_4 x2 y3_l10_4 (v_6 &&& 255)).bind fun (r_9, h_10, k_11, s_12) => (ad k_11 s_12 ((f_J3_inflate_l10_4 Ev x0 x2 x4 k_l10_4) (y1_l10_4 + 1) (y3_l10_4 + 1) (y5_l10_4 + 1) h_10 (n_l10_4 + k_11))))))
def f_J3_inflate (Ev : rb_E) (h : AH) (n : Nat) (x0 : Nat) (x1 : Int32) (x2 : Nat) (x3 : Int32) (x4 : Int32) : Option (Unit × AH × Nat × Nat) := ((f_J3_checkBoundsOffCount Ev h x3 x4 x2).bind fun v_2 => (f_J3_inflate_l10_4 Ev x0 x2 x4 4096 x1 x3 0 h n))
abbrev rm_J3_inflate (k s : Nat) : Room := { frames := 3, cells := k, slots := s, locals := 67 }
set_option maxHeartbeats 4000000 in
theorem ct_J3_inflate (Ev : rb_E) (h : AH) (n : Nat) (x0 : Nat) (x1 : Int32) (x2 : Nat) (x3 : Int32) (x4 : Int32) (r : Unit) (h' : AH) (k s : Nat) (hf : f_J3_inflate Ev h n x0 x1 x2 x3 x4 = some (r, h', k, s)) : Ct Ev yJ3_inflate (ws_ yJ3_inflate cJ3_inflate 6 none) (rm_J3_inflate k s) [.ref x0, .int x1, .ref x2, .int x3, .int x4] h n (pX (.inl (none)) h' (n + k)) := by
  rw [f_J3_inflate] at hf
  refine Ct.of rfl (Nat.le_of_ble_eq_true rfl) fun X C hnm => ?_
  have C : Cx Ev X RJ3 cJ3_inflate 6 none [] := C
  show Wa Ev X (rm_J3_inflate k s) 6 h n 0 0 (rb_MQ Ev X (rm_J3_inflate k s) (pX (.inl (none)) h' (n + k))) 0 [(0, .ref x0), (1, .int x1), (2, .ref x2), (3, .int x3), (4, .int x4)] []
  have hb : Bd (n + k) k s n 0 0 k s := ⟨rfl, Nat.le_of_eq (Nat.zero_add _), Nat.le_of_eq (Nat.zero_add _)⟩
  refine rb_iload_n C dJ3_inflate_0 rfl 3 rfl ?_
  refine rb_iload C dJ3_inflate_1 4 rfl ?_
  refine rb_aload_n C dJ3_inflate_3 rfl 2 rfl ?_
  obtain ⟨v_2, e_3, hf⟩ := rb_bd hf
  refine rb_callS (As := [.int x3, .int x4, .ref x2]) (rest := []) C mi_J3_checkBoundsOffCount ss_J3_173 (ct_J3_checkBoundsOffCount Ev h n x3 x4 x2 _ e_3) rfl rfl (Nat.le_of_ble_eq_true rfl) ⟨Nat.le_of_ble_eq_true rfl, Nat.le_of_ble_eq_true rfl, hb.c0, hb.s0⟩ dJ3_inflate_4 rb_xX (rb_kX (rb_w (kc := 0) (ks := 0) rfl rfl ?_))
  refine rb_iconst (v := 0) C dJ3_inflate_7 rfl ?_
  refine rb_istore (lv' := [(5, .int 0), (0, .ref x0), (1, .int x1), (2, .ref x2), (3, .int x3), (4, .int x4)]) C dJ3_inflate_8 (by decide) rfl ?_
  have L_l10_4 : ∀ (k_l10_4 : Nat) (y1_l10_4 : Int32) (y3_l10_4 : Int32) (y5_l10_4 : Int32) (h_l10_4 : AH) (n_l10_4 kc_l10_4 ks_l10_4 a_ b_ : Nat), f_J3_inflate_l10_4 Ev x0 x2 x4 k_l10_4 y1_l10_4 y3_l10_4 y5_l10_4 h_l10_4 n_l10_4 = some (r, h', a_, b_) → Bd (n + k) k s n_l10_4 kc_l10_4 ks_l10_4 a_ b_ → Wa Ev X (rm_J3_inflate k s) 6 h_l10_4 n_l10_4 kc_l10_4 ks_l10_4 (rb_MQ Ev X (rm_J3_inflate k s) (pX (.inl (none)) h' (n + k))) 10 [(0, .ref x0), (1, .int y1_l10_4), (2, .ref x2), (3, .int y3_l10_4), (4, .int x4), (5, .int y5_l10_4)] [] := by
    intro k_l10_4
    induction k_l10_4 with
    | zero => intro y1_l10_4 y3_l10_4 y5_l10_4 h_l10_4 n_l10_4 kc_l10_4 ks_l10_4 a_ b_ hf hb; cases hf
    | succ k_l10_4 ih_l10_4 =>
      intro y1_l10_4 y3_l10_4 y5_l10_4 h_l10_4 n_l10_4 kc_l10_4 ks_l10_4 a_ b_ hf hb
      rw [f_J3_inflate_l10_4] at hf
      refine rb_iload C dJ3_inflate_10 5 rfl ?_
      refine rb_iload C dJ3_inflate_12 4 rfl ?_
      refine rb_icmp_ge (tgt := 41) C dJ3_inflate_14 (by decide) (fun c_5 => ?_) (fun c_5 => ?_)
      · have hf := (if_pos c_5).symm.trans hf
        cases hf
        exact rb_vret C rfl hb.e.2.1 hb.e.2.2 dJ3_inflate_41 ⟨rfl, rfl, hb.e.1⟩
      · have hf := (if_neg c_5).symm.trans hf
        refine rb_aload_n C dJ3_inflate_17 rfl 2 rfl ?_
        refine rb_iload_n C dJ3_inflate_18 rfl 3 rfl ?_
        refine rb_iinc (v := (y3_l10_4 + 1)) (lv' := [(3, .int (y3_l10_4 + 1)), (0, .ref x0), (1, .int y1_l10_4), (2, .ref x2), (4, .int x4), (5, .int y5_l10_4)]) C dJ3_inflate_19 (k := 3) rfl rfl (by decide) rfl ?_
        refine rb_aload_n C dJ3_inflate_22 rfl 1 rfl ?_
        refine rb_iload_n C dJ3_inflate_23 rfl 2 rfl ?_
        refine rb_iinc (v := (y1_l10_4 + 1)) (lv' := [(1, .int (y1_l10_4 + 1)), (3, .int (y3_l10_4 + 1)), (0, .ref x0), (2, .ref x2), (4, .int x4), (5, .int y5_l10_4)]) C dJ3_inflate_24 (k := 2) rfl rfl (by decide) rfl ?_
        obtain ⟨v_6, e_7, hf⟩ := rb_bd hf
        refine rb_hbl C e_7 dJ3_inflate_27 ?_
        refine rb_sipush (v := 255) C dJ3_inflate_28 rfl ?_
        refine rb_iand C dJ3_inflate_31 ?_
        obtain ⟨⟨r_9, h_10, k_11, s_12⟩, e_13, hf⟩ := rb_bd hf
        obtain ⟨a_16, b_17, hf, ea_14, eb_15⟩ := ad_at hf
        refine rb_callS (As := [.ref x2, .int y3_l10_4, .int (v_6 &&& 255)]) (rest := []) C mi_J3_putChar ss_J3_111 (ct_J3_putChar Ev h_l10_4 n_l10_4 x2 y3_l10_4 (v_6 &&& 255) r_9 _ _ _ e_13) rfl rfl (Nat.le_of_ble_eq_true rfl) ⟨Nat.le_of_ble_eq_true rfl, Nat.le_of_ble_eq_true rfl, Bd.c1 hb ea_14, Bd.s1 hb eb_15⟩ dJ3_inflate_32 rb_xX (rb_kX (rb_w (kc := (kc_l10_4 + k_11)) (ks := (ks_l10_4 + s_12)) rfl rfl ?_))
        have hb := Bd.ade hb ea_14 eb_15
        refine rb_iinc (v := (y5_l10_4 + 1)) (lv' := [(5, .int (y5_l10_4 + 1)), (1, .int (y1_l10_4 + 1)), (3, .int (y3_l10_4 + 1)), (0, .ref x0), (2, .ref x2), (4, .int x4)]) C dJ3_inflate_35 (k := 5) rfl rfl (by decide) rfl ?_
        refine rb_goto (tgt := 10) C dJ3_inflate_38 (by decide) ?_
        refine rb_sub [3, 1, 4, 2, 5, 0] rfl ?_
        exact ih_l10_4 (y1_l10_4 + 1) (y3_l10_4 + 1) (y5_l10_4 + 1) h_10 (n_l10_4 + k_11) _ _ _ _ hf hb
  refine rb_sub [1, 2, 3, 4, 5, 0] rfl ?_
  exact L_l10_4 4096 x1 x3 0 h n _ _ _ _ hf hb
def f_J11_inflate (Ev : rb_E) (h : AH) (n : Nat) (x0 : Nat) (x1 : Int32) (x2 : Nat) (x3 : Int32) (x4 : Int32) : Option (Unit × AH × Nat × Nat) := ((f_J3_inflate Ev h n x0 x1 x2 x3 x4).bind fun (r_2, h_3, k_4, s_5) => (ad k_4 s_5 (some ((), h_3, 0, 0))))
abbrev rm_J11_inflate (k s : Nat) : Room := { frames := 4, cells := k, slots := s, locals := 92 }
set_option maxHeartbeats 4000000 in
theorem ct_J11_inflate (Ev : rb_E) (h : AH) (n : Nat) (x0 : Nat) (x1 : Int32) (x2 : Nat) (x3 : Int32) (x4 : Int32) (r : Unit) (h' : AH) (k s : Nat) (hf : f_J11_inflate Ev h n x0 x1 x2 x3 x4 = some (r, h', k, s)) : Ct Ev yJ11_inflate (ws_ yJ11_inflate cJ11_inflate 5 none) (rm_J11_inflate k s) [.ref x0, .int x1, .ref x2, .int x3, .int x4] h n (pX (.inl (none)) h' (n + k)) := by
  rw [f_J11_inflate] at hf
  refine Ct.of rfl (Nat.le_of_ble_eq_true rfl) fun X C hnm => ?_
  have C : Cx Ev X RJ11 cJ11_inflate 5 none [] := C
  show Wa Ev X (rm_J11_inflate k s) 5 h n 0 0 (rb_MQ Ev X (rm_J11_inflate k s) (pX (.inl (none)) h' (n + k))) 0 [(0, .ref x0), (1, .int x1), (2, .ref x2), (3, .int x3), (4, .int x4)] []
  have hb : Bd (n + k) k s n 0 0 k s := ⟨rfl, Nat.le_of_eq (Nat.zero_add _), Nat.le_of_eq (Nat.zero_add _)⟩
  refine rb_aload_n C dJ11_inflate_0 rfl 0 rfl ?_
  refine rb_iload_n C dJ11_inflate_1 rfl 1 rfl ?_
  refine rb_aload_n C dJ11_inflate_2 rfl 2 rfl ?_
  refine rb_iload_n C dJ11_inflate_3 rfl 3 rfl ?_
  refine rb_iload C dJ11_inflate_4 4 rfl ?_
  obtain ⟨⟨r_2, h_3, k_4, s_5⟩, e_6, hf⟩ := rb_bd hf
  obtain ⟨a_9, b_10, hf, ea_7, eb_8⟩ := ad_at hf
  refine rb_callS (As := [.ref x0, .int x1, .ref x2, .int x3, .int x4]) (rest := []) C mi_J3_inflate ss_J11_240 (ct_J3_inflate Ev h n x0 x1 x2 x3 x4 r_2 _ _ _ e_6) rfl rfl (Nat.le_of_ble_eq_true rfl) ⟨Nat.le_of_ble_eq_true rfl, Nat.le_of_ble_eq_true rfl, Bd.c1 hb ea_7, Bd.s1 hb eb_8⟩ dJ11_inflate_6 rb_xX (rb_kX (rb_w (kc := (0 + k_4)) (ks := (0 + s_5)) rfl rfl ?_))
  have hb := Bd.ade hb ea_7 eb_8
  cases hf
  exact rb_vret C rfl hb.e.2.1 hb.e.2.2 dJ11_inflate_9 ⟨rfl, rfl, hb.e.1⟩
def f_J0_inflate (Ev : rb_E) (h : AH) (n : Nat) (o : Nat) : Option (Unit × AH × Nat × Nat) := ((hp_k Ev h o 13).bind fun u_1 => ((f_J0_isLatin1 Ev h o).bind fun v_4 => (if v_4 = 0 then (some ((), h, 0, 0)) else ((hp_p Ev h o 13 0).bind fun v_7 => ((hp_len Ev h v_7 1).bind fun v_9 => ((f_J3_newBytesFor Ev h n (nI v_9)).bind fun (r_12, h_13, k_14, s_15) => (ad k_14 s_15 ((hp_p Ev h_13 o 13 0).bind fun v_21 => ((hp_i Ev h_13 o 13 3).bind fun v_23 => ((f_J11_inflate Ev h_13 (n + k_14) v_21 0 r_12 0 v_23).bind fun (r_26, h_27, k_28, s_29) => (ad k_28 s_29 ((hp_put h_27 o 13 0 (.ref r_12)).bind fun h_35 => ((hp_put h_35 o 13 1 (.int 1)).bind fun h_37 => (some ((), h_37, 0, 0)))))))))))))))
abbrev rm_J0_inflate (k s : Nat) : Room := { frames := 5, cells := k, slots := s, locals := 116 }
set_option maxHeartbeats 4000000 in
theorem ct_J0_inflate (Ev : rb_E) (h : AH) (n : Nat) (o : Nat) (r : Unit) (h' : AH) (k s : Nat) (hf : f_J0_inflate Ev h n o = some (r, h', k, s)) : Ct Ev yJ0_inflate (ws_ yJ0_inflate cJ0_inflate 2 none) (rm_J0_inflate k s) [.ref o] h n (pX (.inl (none)) h' (n + k)) := by
  rw [f_J0_inflate] at hf
  refine Ct.of rfl (Nat.le_of_ble_eq_true rfl) fun X C hnm => ?_
  have C : Cx Ev X RJ0 cJ0_inflate 2 none [] := C
  show Wa Ev X (rm_J0_inflate k s) 2 h n 0 0 (rb_MQ Ev X (rm_J0_inflate k s) (pX (.inl (none)) h' (n + k))) 0 [(0, .ref o)] []
  have hb : Bd (n + k) k s n 0 0 k s := ⟨rfl, Nat.le_of_eq (Nat.zero_add _), Nat.le_of_eq (Nat.zero_add _)⟩
  refine rb_aload_n C dJ0_inflate_0 rfl 0 rfl ?_
  obtain ⟨u_1, e_2, hf⟩ := rb_bd hf
  obtain ⟨v_4, e_5, hf⟩ := rb_bd hf
  refine rb_callU (As := []) (rest := []) C mi_J0_isLatin1 su_J0_83_J1 (hp_k_isC C.pf e_2 ck_J1) (ct_J0_isLatin1 Ev h n o _ e_5) rfl rfl (Nat.le_of_ble_eq_true rfl) ⟨Nat.le_of_ble_eq_true rfl, Nat.le_of_ble_eq_true rfl, hb.c0, hb.s0⟩ dJ0_inflate_1 rb_xXi (rb_kXi fun hn_3 => (rb_w (kc := 0) (ks := 0) rfl rfl ?_))
  refine rb_if_ne (tgt := 8) C dJ0_inflate_4 (by decide) (fun c_6 => ?_) (fun c_6 => ?_)
  · have hf := (if_neg c_6).symm.trans hf
    refine rb_aload_n C dJ0_inflate_8 rfl 0 rfl ?_
    obtain ⟨v_7, e_8, hf⟩ := rb_bd hf
    refine rb_hP C fl_J0_15_J1 e_8 dJ0_inflate_9 ?_
    obtain ⟨v_9, e_10, hf⟩ := rb_bd hf
    refine rb_hlen (t := 1) C rfl e_10 dJ0_inflate_12 ?_
    obtain ⟨⟨r_12, h_13, k_14, s_15⟩, e_16, hf⟩ := rb_bd hf
    obtain ⟨a_19, b_20, hf, ea_17, eb_18⟩ := ad_at hf
    refine rb_callS (As := [.int (nI v_9)]) (rest := []) C mi_J3_newBytesFor ss_J0_26 (ct_J3_newBytesFor Ev h n (nI v_9) r_12 _ _ _ e_16) rfl rfl (Nat.le_of_ble_eq_true rfl) ⟨Nat.le_of_ble_eq_true rfl, Nat.le_of_ble_eq_true rfl, Bd.c1 hb ea_17, Bd.s1 hb eb_18⟩ dJ0_inflate_13 rb_xX (rb_kX (rb_w (kc := (0 + k_14)) (ks := (0 + s_15)) rfl rfl ?_))
    have hb := Bd.ade hb ea_17 eb_18
    refine rb_astore_n (lv' := [(1, .ref r_12), (0, .ref o)]) C dJ0_inflate_16 rfl (by decide) rfl ?_
    refine rb_aload_n C dJ0_inflate_17 rfl 1 rfl ?_
    obtain ⟨v_21, e_22, hf⟩ := rb_bd hf
    refine rb_hP C fl_J0_15_J1 e_22 dJ0_inflate_18 ?_
    refine rb_iconst (v := 0) C dJ0_inflate_21 rfl ?_
    refine rb_aload_n C dJ0_inflate_22 rfl 0 rfl ?_
    refine rb_iconst (v := 0) C dJ0_inflate_23 rfl ?_
    refine rb_aload_n C dJ0_inflate_24 rfl 1 rfl ?_
    obtain ⟨v_23, e_24, hf⟩ := rb_bd hf
    refine rb_hI C fl_J0_79_J1 e_24 dJ0_inflate_25 ?_
    obtain ⟨⟨r_26, h_27, k_28, s_29⟩, e_30, hf⟩ := rb_bd hf
    obtain ⟨a_33, b_34, hf, ea_31, eb_32⟩ := ad_at hf
    refine rb_callS (As := [.ref v_21, .int 0, .ref r_12, .int 0, .int v_23]) (rest := []) C mi_J11_inflate ss_J0_125 (ct_J11_inflate Ev h_13 (n + k_14) v_21 0 r_12 0 v_23 r_26 _ _ _ e_30) rfl rfl (Nat.le_of_ble_eq_true rfl) ⟨Nat.le_of_ble_eq_true rfl, Nat.le_of_ble_eq_true rfl, Bd.c1 hb ea_31, Bd.s1 hb eb_32⟩ dJ0_inflate_28 rb_xX (rb_kX (rb_w (kc := ((0 + k_14) + k_28)) (ks := ((0 + s_15) + s_29)) rfl rfl ?_))
    have hb := Bd.ade hb ea_31 eb_32
    refine rb_aload_n C dJ0_inflate_31 rfl 1 rfl ?_
    refine rb_aload_n C dJ0_inflate_32 rfl 0 rfl ?_
    obtain ⟨h_35, e_36, hf⟩ := rb_bd hf
    refine rb_hput C fw_J0_15_J1 e_36 rfl rfl dJ0_inflate_33 ?_
    refine rb_aload_n C dJ0_inflate_36 rfl 1 rfl ?_
    refine rb_iconst (v := 1) C dJ0_inflate_37 rfl ?_
    obtain ⟨h_37, e_38, hf⟩ := rb_bd hf
    refine rb_hput C fw_J0_22_J1 e_38 rfl rfl dJ0_inflate_38 ?_
    cases hf
    exact rb_vret C rfl hb.e.2.1 hb.e.2.2 dJ0_inflate_41 ⟨rfl, rfl, hb.e.1⟩
  · have hf := (if_pos c_6).symm.trans hf
    cases hf
    exact rb_vret C rfl hb.e.2.1 hb.e.2.2 dJ0_inflate_7 ⟨rfl, rfl, hb.e.1⟩
def f_J3_putCharSB (Ev : rb_E) (h : AH) (n : Nat) (x0 : Nat) (x1 : Int32) (x2 : Int32) : Option (Unit × AH × Nat × Nat) := ((f_J3_checkIndex Ev h x1 x0).bind fun v_2 => ((f_J3_putChar Ev h n x0 x1 x2).bind fun (r_5, h_6, k_7, s_8) => (ad k_7 s_8 (some ((), h_6, 0, 0)))))
abbrev rm_J3_putCharSB (k s : Nat) : Room := { frames := 3, cells := k, slots := s, locals := 64 }
set_option maxHeartbeats 4000000 in
theorem ct_J3_putCharSB (Ev : rb_E) (h : AH) (n : Nat) (x0 : Nat) (x1 : Int32) (x2 : Int32) (r : Unit) (h' : AH) (k s : Nat) (hf : f_J3_putCharSB Ev h n x0 x1 x2 = some (r, h', k, s)) : Ct Ev yJ3_putCharSB (ws_ yJ3_putCharSB cJ3_putCharSB 3 none) (rm_J3_putCharSB k s) [.ref x0, .int x1, .int x2] h n (pX (.inl (none)) h' (n + k)) := by
  rw [f_J3_putCharSB] at hf
  refine Ct.of rfl (Nat.le_of_ble_eq_true rfl) fun X C hnm => ?_
  have C : Cx Ev X RJ3 cJ3_putCharSB 3 none [] := C
  show Wa Ev X (rm_J3_putCharSB k s) 3 h n 0 0 (rb_MQ Ev X (rm_J3_putCharSB k s) (pX (.inl (none)) h' (n + k))) 0 [(0, .ref x0), (1, .int x1), (2, .int x2)] []
  have hb : Bd (n + k) k s n 0 0 k s := ⟨rfl, Nat.le_of_eq (Nat.zero_add _), Nat.le_of_eq (Nat.zero_add _)⟩
  refine rb_iload_n C dJ3_putCharSB_0 rfl 1 rfl ?_
  refine rb_aload_n C dJ3_putCharSB_1 rfl 0 rfl ?_
  obtain ⟨v_2, e_3, hf⟩ := rb_bd hf
  refine rb_callS (As := [.int x1, .ref x0]) (rest := []) C mi_J3_checkIndex ss_J3_67 (ct_J3_checkIndex Ev h n x1 x0 _ e_3) rfl rfl (Nat.le_of_ble_eq_true rfl) ⟨Nat.le_of_ble_eq_true rfl, Nat.le_of_ble_eq_true rfl, hb.c0, hb.s0⟩ dJ3_putCharSB_2 rb_xX (rb_kX (rb_w (kc := 0) (ks := 0) rfl rfl ?_))
  refine rb_aload_n C dJ3_putCharSB_5 rfl 0 rfl ?_
  refine rb_iload_n C dJ3_putCharSB_6 rfl 1 rfl ?_
  refine rb_iload_n C dJ3_putCharSB_7 rfl 2 rfl ?_
  obtain ⟨⟨r_5, h_6, k_7, s_8⟩, e_9, hf⟩ := rb_bd hf
  obtain ⟨a_12, b_13, hf, ea_10, eb_11⟩ := ad_at hf
  refine rb_callS (As := [.ref x0, .int x1, .int x2]) (rest := []) C mi_J3_putChar ss_J3_111 (ct_J3_putChar Ev h n x0 x1 x2 r_5 _ _ _ e_9) rfl rfl (Nat.le_of_ble_eq_true rfl) ⟨Nat.le_of_ble_eq_true rfl, Nat.le_of_ble_eq_true rfl, Bd.c1 hb ea_10, Bd.s1 hb eb_11⟩ dJ3_putCharSB_8 rb_xX (rb_kX (rb_w (kc := (0 + k_7)) (ks := (0 + s_8)) rfl rfl ?_))
  have hb := Bd.ade hb ea_10 eb_11
  cases hf
  exact rb_vret C rfl hb.e.2.1 hb.e.2.2 dJ3_putCharSB_11 ⟨rfl, rfl, hb.e.1⟩
def f_J0_appendChars_2_l22_29 (Ev : rb_E) (o : Nat) (x1 : Nat) (x2 : Int32) (x3 : Int32) (v_25 : Nat) : Nat → Int32 → Int32 → AH → Nat → Option (Unit × AH × Nat × Nat)
  | 0, _, _, _, _ => none
  | k_l22_29 + 1, y5_l22_29, y6_l22_29, h_l22_29, n_l22_29 => (if x3 ≤ y5_l22_29 then ((hp_i Ev h_l22_29 o 13 3).bind fun v_31 => ((hp_put h_l22_29 o 13 3 (.int (v_31 + (x3 - x2)))).bind fun h_33 => (some ((), h_33, 0, 0)))) else ((hp_cls Ev h_l22_29 x1).bind fun v_35 => (if v_35 = 14 then ((f_J2_charAt Ev h_l22_29 x1 y5_l22_29).bind fun v_39 => (if (f_J11_canEncode v_39) = 0 then ((hp_put h_l22_29 o 13 3 (.int y6_l22_29)).bind fun h_43 => ((hp_k Ev h_43 o 13).bind fun u_45 => ((f_J0_inflate Ev h_43 n_l22_29 o).bind fun (r_48, h_49, k_50, s_51) => (ad k_50 s_51 ((hp_p Ev h_49 o 13 0).bind fun v_57 => ((f_J3_putCharSB Ev h_49 (n_l22_29 + k_50) v_57 y6_l22_29 v_39).bind fun (r_60, h_61, k_62, s_63) => (ad k_62 s_63 ((hp_put h_61 o 13 3 (.int (y6_l22_29 + 1))).bind fun h_69 => ((hp_p Ev h_69 o 13 0).bind fun v_71 => ((f_J3_putCharsSB Ev h_69 ((n_l22_29 + k_50) + k_62) v_71 (y6_l22_29 + 1) x1 (y5_l22_29 + 1) x3).bind fun (r_74, h_75, k_76, s_77) => (ad k_76 s_77 ((hp_i Ev h_75 o 13 3).bind fun v_83 => ((hp_put h_75 o 13 3 (.int (v_83 + (x3 - (y5_l22_29 + 1))))).bind fun h_85 => (some ((), h_85, 0, 0))))))))))))))) else ((hp_bs Ev h_l22_29 v_25 y6_l22_29 v_39.toInt8.toInt32).bind fun h_87 => ((f_J0_appendChars_2_l22_29 Ev o x1 x2 x3 v_25 k_l22_29) (y5_l22_29 + 1) (y6_l22_29 + 1) h_87 n_l22_29)))) else (if v_35 = 13 then ((f_J1_charAt Ev h_l22_29 x1 y5_l22_29).bind fun v_91 => (if (f_J11_canEncode v_91) = 0 then ((hp_put h_l22_29 o 13 3 (.int y6_l22_29)).bind fun h_95 => ((hp_k Ev h_95 o 13).bind fun u_97 => ((f_J0_inflate Ev h_95 n_l22_29 o).bind fun (r_100, h_101, k_102, s_103) => (ad k_102 s_103 ((hp_p Ev h_101 o 13 0).bind fun v_109 => ((f_J3_putCharSB Ev h_101 (n_l22_29 + k_102) v_109 y6_l22_29 v_91).bind fun (r_112, h_113, k_114, s_115) => (ad k_114 s_115 ((hp_put h_113 o 13 3 (.int (y6_l22_29 + 1))).bind fun h_121 => ((hp_p Ev h_121 o 13 0).bind fun v_123 => ((f_J3_putCharsSB Ev h_121 ((n_l22_29 + k_102) + k_114) v_123 (y6_l22_29 + 1) x1 (y5_l22_29 + 1) x3).bind fun (r_126, h_127, k_128, s_129) => (ad k_128 s_129 ((hp_i Ev h_127 o 13 3).bind fun v_135 => ((hp_put h_127 o 13 3 (.int (v_135 + (x3 - (y5_l22_29 + 1))))).bind fun h_137 => (some ((), h_137, 0, 0))))))))))))))) else ((hp_bs Ev h_l22_29 v_25 y6_l22_29 v_91.toInt8.toInt32).bind fun h_139 => ((f_J0_appendChars_2_l22_29 Ev o x1 x2 x3 v_25 k_l22_29) (y5_l22_29 + 1) (y6_l22_29 + 1) h_139 n_l22_29)))) else none))))
def f_J0_appendChars_2 (Ev : rb_E) (h : AH) (n : Nat) (o : Nat) (x1 : Nat) (x2 : Int32) (x3 : Int32) : Option (Unit × AH × Nat × Nat) := ((hp_k Ev h o 13).bind fun u_1 => ((f_J0_isLatin1 Ev h o).bind fun v_4 => (if v_4 = 0 then ((hp_p Ev h o 13 0).bind fun v_7 => ((hp_i Ev h o 13 3).bind fun v_9 => ((f_J3_putCharsSB Ev h n v_7 v_9 x1 x2 x3).bind fun (r_12, h_13, k_14, s_15) => (ad k_14 s_15 ((hp_i Ev h_13 o 13 3).bind fun v_21 => ((hp_put h_13 o 13 3 (.int (v_21 + (x3 - x2)))).bind fun h_23 => (some ((), h_23, 0, 0)))))))) else ((hp_p Ev h o 13 0).bind fun v_25 => ((hp_i Ev h o 13 3).bind fun v_27 => (f_J0_appendChars_2_l22_29 Ev o x1 x2 x3 v_25 4096 x2 v_27 h n))))))
abbrev rm_J0_appendChars_2 (k s : Nat) : Room := { frames := 6, cells := k, slots := s, locals := 137 }
set_option maxHeartbeats 4000000 in
theorem ct_J0_appendChars_2 (Ev : rb_E) (h : AH) (n : Nat) (o : Nat) (x1 : Nat) (x2 : Int32) (x3 : Int32) (r : Unit) (h' : AH) (k s : Nat) (hf : f_J0_appendChars_2 Ev h n o x1 x2 x3 = some (r, h', k, s)) : Ct Ev yJ0_appendChars_2 (ws_ yJ0_appendChars_2 cJ0_appendChars_2 8 none) (rm_J0_appendChars_2 k s) [.ref o, .ref x1, .int x2, .int x3] h n (pX (.inl (none)) h' (n + k)) := by
  rw [f_J0_appendChars_2] at hf
  refine Ct.of rfl (Nat.le_of_ble_eq_true rfl) fun X C hnm => ?_
  have C : Cx Ev X RJ0 cJ0_appendChars_2 8 none [] := C
  show Wa Ev X (rm_J0_appendChars_2 k s) 8 h n 0 0 (rb_MQ Ev X (rm_J0_appendChars_2 k s) (pX (.inl (none)) h' (n + k))) 0 [(0, .ref o), (1, .ref x1), (2, .int x2), (3, .int x3)] []
  have hb : Bd (n + k) k s n 0 0 k s := ⟨rfl, Nat.le_of_eq (Nat.zero_add _), Nat.le_of_eq (Nat.zero_add _)⟩
  refine rb_aload_n C dJ0_appendChars_2_0 rfl 0 rfl ?_
  obtain ⟨u_1, e_2, hf⟩ := rb_bd hf
  obtain ⟨v_4, e_5, hf⟩ := rb_bd hf
  refine rb_callU (As := []) (rest := []) C mi_J0_isLatin1 su_J0_83_J1 (hp_k_isC C.pf e_2 ck_J1) (ct_J0_isLatin1 Ev h n o _ e_5) rfl rfl (Nat.le_of_ble_eq_true rfl) ⟨Nat.le_of_ble_eq_true rfl, Nat.le_of_ble_eq_true rfl, hb.c0, hb.s0⟩ dJ0_appendChars_2_1 rb_xXi (rb_kXi fun hn_3 => (rb_w (kc := 0) (ks := 0) rfl rfl ?_))
  refine rb_if_eq (tgt := 129) C dJ0_appendChars_2_4 (by decide) (fun c_6 => ?_) (fun c_6 => ?_)
  · have hf := (if_pos c_6).symm.trans hf
    refine rb_aload_n C dJ0_appendChars_2_129 rfl 0 rfl ?_
    obtain ⟨v_7, e_8, hf⟩ := rb_bd hf
    refine rb_hP C fl_J0_15_J1 e_8 dJ0_appendChars_2_130 ?_
    refine rb_aload_n C dJ0_appendChars_2_133 rfl 0 rfl ?_
    obtain ⟨v_9, e_10, hf⟩ := rb_bd hf
    refine rb_hI C fl_J0_79_J1 e_10 dJ0_appendChars_2_134 ?_
    refine rb_aload_n C dJ0_appendChars_2_137 rfl 1 rfl ?_
    refine rb_iload_n C dJ0_appendChars_2_138 rfl 2 rfl ?_
    refine rb_iload_n C dJ0_appendChars_2_139 rfl 3 rfl ?_
    obtain ⟨⟨r_12, h_13, k_14, s_15⟩, e_16, hf⟩ := rb_bd hf
    obtain ⟨a_19, b_20, hf, ea_17, eb_18⟩ := ad_at hf
    refine rb_callS (As := [.ref v_7, .int v_9, .ref x1, .int x2, .int x3]) (rest := []) C mi_J3_putCharsSB ss_J0_394 (ct_J3_putCharsSB Ev h n v_7 v_9 x1 x2 x3 r_12 _ _ _ e_16) rfl rfl (Nat.le_of_ble_eq_true rfl) ⟨Nat.le_of_ble_eq_true rfl, Nat.le_of_ble_eq_true rfl, Bd.c1 hb ea_17, Bd.s1 hb eb_18⟩ dJ0_appendChars_2_140 rb_xX (rb_kX (rb_w (kc := (0 + k_14)) (ks := (0 + s_15)) rfl rfl ?_))
    have hb := Bd.ade hb ea_17 eb_18
    refine rb_aload_n C dJ0_appendChars_2_143 rfl 0 rfl ?_
    refine rb_dup C dJ0_appendChars_2_144 rfl ?_
    obtain ⟨v_21, e_22, hf⟩ := rb_bd hf
    refine rb_hI C fl_J0_79_J1 e_22 dJ0_appendChars_2_145 ?_
    refine rb_iload_n C dJ0_appendChars_2_148 rfl 3 rfl ?_
    refine rb_iload_n C dJ0_appendChars_2_149 rfl 2 rfl ?_
    refine rb_isub C dJ0_appendChars_2_150 ?_
    refine rb_iadd C dJ0_appendChars_2_151 ?_
    obtain ⟨h_23, e_24, hf⟩ := rb_bd hf
    refine rb_hput C fw_J0_79_J1 e_24 rfl rfl dJ0_appendChars_2_152 ?_
    cases hf
    exact rb_vret C rfl hb.e.2.1 hb.e.2.2 dJ0_appendChars_2_155 ⟨rfl, rfl, hb.e.1⟩
  · have hf := (if_neg c_6).symm.trans hf
    refine rb_aload_n C dJ0_appendChars_2_7 rfl 0 rfl ?_
    obtain ⟨v_25, e_26, hf⟩ := rb_bd hf
    refine rb_hP C fl_J0_15_J1 e_26 dJ0_appendChars_2_8 ?_
    refine rb_astore (lv' := [(4, .ref v_25), (0, .ref o), (1, .ref x1), (2, .int x2), (3, .int x3)]) C dJ0_appendChars_2_11 (by decide) rfl ?_
    refine rb_iload_n C dJ0_appendChars_2_13 rfl 3 rfl ?_
    refine rb_istore (lv' := [(5, .int x2), (4, .ref v_25), (0, .ref o), (1, .ref x1), (2, .int x2), (3, .int x3)]) C dJ0_appendChars_2_14 (by decide) rfl ?_
    refine rb_aload_n C dJ0_appendChars_2_16 rfl 2 rfl ?_
    obtain ⟨v_27, e_28, hf⟩ := rb_bd hf
    refine rb_hI C fl_J0_79_J1 e_28 dJ0_appendChars_2_17 ?_
    refine rb_istore (lv' := [(6, .int v_27), (5, .int x2), (4, .ref v_25), (0, .ref o), (1, .ref x1), (2, .int x2), (3, .int x3)]) C dJ0_appendChars_2_20 (by decide) rfl ?_
    have L_l22_29 : ∀ (k_l22_29 : Nat) (y5_l22_29 : Int32) (y6_l22_29 : Int32) (h_l22_29 : AH) (n_l22_29 kc_l22_29 ks_l22_29 a_ b_ : Nat), f_J0_appendChars_2_l22_29 Ev o x1 x2 x3 v_25 k_l22_29 y5_l22_29 y6_l22_29 h_l22_29 n_l22_29 = some (r, h', a_, b_) → Bd (n + k) k s n_l22_29 kc_l22_29 ks_l22_29 a_ b_ → Wa Ev X (rm_J0_appendChars_2 k s) 8 h_l22_29 n_l22_29 kc_l22_29 ks_l22_29 (rb_MQ Ev X (rm_J0_appendChars_2 k s) (pX (.inl (none)) h' (n + k))) 22 [(0, .ref o), (1, .ref x1), (2, .int x2), (3, .int x3), (4, .ref v_25), (5, .int y5_l22_29), (6, .int y6_l22_29)] [] := by
      intro k_l22_29
      induction k_l22_29 with
      | zero => intro y5_l22_29 y6_l22_29 h_l22_29 n_l22_29 kc_l22_29 ks_l22_29 a_ b_ hf hb; cases hf
      | succ k_l22_29 ih_l22_29 =>
        intro y5_l22_29 y6_l22_29 h_l22_29 n_l22_29 kc_l22_29 ks_l22_29 a_ b_ hf hb
        rw [f_J0_appendChars_2_l22_29] at hf
        refine rb_iload C dJ0_appendChars_2_22 5 rfl ?_
        refine rb_iload_n C dJ0_appendChars_2_24 rfl 3 rfl ?_
        refine rb_icmp_ge (tgt := 126) C dJ0_appendChars_2_25 (by decide) (fun c_30 => ?_) (fun c_30 => ?_)
        · have hf := (if_pos c_30).symm.trans hf
          refine rb_goto (tgt := 143) C dJ0_appendChars_2_126 (by decide) ?_
          refine rb_aload_n C dJ0_appendChars_2_143 rfl 0 rfl ?_
          refine rb_dup C dJ0_appendChars_2_144 rfl ?_
          obtain ⟨v_31, e_32, hf⟩ := rb_bd hf
          refine rb_hI C fl_J0_79_J1 e_32 dJ0_appendChars_2_145 ?_
          refine rb_iload_n C dJ0_appendChars_2_148 rfl 3 rfl ?_
          refine rb_iload_n C dJ0_appendChars_2_149 rfl 2 rfl ?_
          refine rb_isub C dJ0_appendChars_2_150 ?_
          refine rb_iadd C dJ0_appendChars_2_151 ?_
          obtain ⟨h_33, e_34, hf⟩ := rb_bd hf
          refine rb_hput C fw_J0_79_J1 e_34 rfl rfl dJ0_appendChars_2_152 ?_
          cases hf
          exact rb_vret C rfl hb.e.2.1 hb.e.2.2 dJ0_appendChars_2_155 ⟨rfl, rfl, hb.e.1⟩
        · have hf := (if_neg c_30).symm.trans hf
          refine rb_aload_n C dJ0_appendChars_2_28 rfl 1 rfl ?_
          refine rb_iload C dJ0_appendChars_2_29 5 rfl ?_
          obtain ⟨v_35, e_36, hf⟩ := rb_bd hf
          by_cases c_37 : v_35 = 14
          · have hf := (if_pos c_37).symm.trans hf
            subst c_37
            obtain ⟨v_39, e_40, hf⟩ := rb_bd hf
            refine rb_callF (As := [.int y5_l22_29]) (rest := []) C mi_J2_charAt sf_J0_390_J2 ck_J2 (hp_cls_isC C.pf e_36 ck_J2) (ct_J2_charAt Ev h_l22_29 n_l22_29 x1 y5_l22_29 _ e_40) rfl rfl (Nat.le_of_ble_eq_true rfl) ⟨Nat.le_of_ble_eq_true rfl, Nat.le_of_ble_eq_true rfl, hb.c0, hb.s0⟩ dJ0_appendChars_2_31 rb_xXi (rb_kXi fun hn_38 => (rb_w (kc := kc_l22_29) (ks := ks_l22_29) rfl rfl ?_))
            refine rb_istore (lv' := [(7, .int v_39), (0, .ref o), (1, .ref x1), (2, .int x2), (3, .int x3), (4, .ref v_25), (5, .int y5_l22_29), (6, .int y6_l22_29)]) C dJ0_appendChars_2_36 (by decide) rfl ?_
            refine rb_iload C dJ0_appendChars_2_38 0 rfl ?_
            refine rb_callS (As := [.int v_39]) (rest := []) C mi_J11_canEncode ss_J0_191 (ct_J11_canEncode Ev h_l22_29 n_l22_29 v_39 _ rfl) rfl rfl (Nat.le_of_ble_eq_true rfl) ⟨Nat.le_of_ble_eq_true rfl, Nat.le_of_ble_eq_true rfl, hb.c0, hb.s0⟩ dJ0_appendChars_2_40 rb_xXi (rb_kXi fun hn_41 => (rb_w (kc := kc_l22_29) (ks := ks_l22_29) rfl rfl ?_))
            refine rb_if_eq (tgt := 60) C dJ0_appendChars_2_43 (by decide) (fun c_42 => ?_) (fun c_42 => ?_)
            · have hf := (if_pos c_42).symm.trans hf
              refine rb_aload_n C dJ0_appendChars_2_60 rfl 1 rfl ?_
              refine rb_iload C dJ0_appendChars_2_61 7 rfl ?_
              obtain ⟨h_43, e_44, hf⟩ := rb_bd hf
              refine rb_hput C fw_J0_79_J1 e_44 rfl rfl dJ0_appendChars_2_63 ?_
              refine rb_aload_n C dJ0_appendChars_2_66 rfl 1 rfl ?_
              obtain ⟨u_45, e_46, hf⟩ := rb_bd hf
              obtain ⟨⟨r_48, h_49, k_50, s_51⟩, e_52, hf⟩ := rb_bd hf
              obtain ⟨a_55, b_56, hf, ea_53, eb_54⟩ := ad_at hf
              refine rb_callVP (As := []) (rest := []) C mi_J0_inflate sp_J0_195 (hp_k_isC C.pf e_46 ck_J1) (ct_J0_inflate Ev h_43 n_l22_29 o r_48 _ _ _ e_52) rfl rfl (Nat.le_of_ble_eq_true rfl) ⟨Nat.le_of_ble_eq_true rfl, Nat.le_of_ble_eq_true rfl, Bd.c1 hb ea_53, Bd.s1 hb eb_54⟩ dJ0_appendChars_2_67 rb_xX (rb_kX (rb_w (kc := (kc_l22_29 + k_50)) (ks := (ks_l22_29 + s_51)) rfl rfl ?_))
              have hb := Bd.ade hb ea_53 eb_54
              refine rb_aload_n C dJ0_appendChars_2_70 rfl 1 rfl ?_
              obtain ⟨v_57, e_58, hf⟩ := rb_bd hf
              refine rb_hP C fl_J0_15_J1 e_58 dJ0_appendChars_2_71 ?_
              refine rb_iload C dJ0_appendChars_2_74 7 rfl ?_
              refine rb_iinc (v := (y6_l22_29 + 1)) (lv' := [(6, .int (y6_l22_29 + 1)), (7, .int v_39), (0, .ref o), (1, .ref x1), (2, .int x2), (3, .int x3), (4, .ref v_25), (5, .int y5_l22_29)]) C dJ0_appendChars_2_76 (k := 7) rfl rfl (by decide) rfl ?_
              refine rb_iload C dJ0_appendChars_2_79 1 rfl ?_
              obtain ⟨⟨r_60, h_61, k_62, s_63⟩, e_64, hf⟩ := rb_bd hf
              obtain ⟨a_67, b_68, hf, ea_65, eb_66⟩ := ad_at hf
              refine rb_callS (As := [.ref v_57, .int y6_l22_29, .int v_39]) (rest := []) C mi_J3_putCharSB ss_J0_197 (ct_J3_putCharSB Ev h_49 (n_l22_29 + k_50) v_57 y6_l22_29 v_39 r_60 _ _ _ e_64) rfl rfl (Nat.le_of_ble_eq_true rfl) ⟨Nat.le_of_ble_eq_true rfl, Nat.le_of_ble_eq_true rfl, Bd.c1 hb ea_65, Bd.s1 hb eb_66⟩ dJ0_appendChars_2_81 rb_xX (rb_kX (rb_w (kc := ((kc_l22_29 + k_50) + k_62)) (ks := ((ks_l22_29 + s_51) + s_63)) rfl rfl ?_))
              have hb := Bd.ade hb ea_65 eb_66
              refine rb_aload_n C dJ0_appendChars_2_84 rfl 2 rfl ?_
              refine rb_iload C dJ0_appendChars_2_85 0 rfl ?_
              obtain ⟨h_69, e_70, hf⟩ := rb_bd hf
              refine rb_hput C fw_J0_79_J1 e_70 rfl rfl dJ0_appendChars_2_87 ?_
              refine rb_iinc (v := (y5_l22_29 + 1)) (lv' := [(5, .int (y5_l22_29 + 1)), (6, .int (y6_l22_29 + 1)), (7, .int v_39), (0, .ref o), (1, .ref x1), (2, .int x2), (3, .int x3), (4, .ref v_25)]) C dJ0_appendChars_2_90 (k := 7) rfl rfl (by decide) rfl ?_
              refine rb_aload_n C dJ0_appendChars_2_93 rfl 3 rfl ?_
              obtain ⟨v_71, e_72, hf⟩ := rb_bd hf
              refine rb_hP C fl_J0_15_J1 e_72 dJ0_appendChars_2_94 ?_
              refine rb_iload C dJ0_appendChars_2_97 1 rfl ?_
              refine rb_aload_n C dJ0_appendChars_2_99 rfl 4 rfl ?_
              refine rb_iload C dJ0_appendChars_2_100 0 rfl ?_
              refine rb_iload_n C dJ0_appendChars_2_102 rfl 6 rfl ?_
              obtain ⟨⟨r_74, h_75, k_76, s_77⟩, e_78, hf⟩ := rb_bd hf
              obtain ⟨a_81, b_82, hf, ea_79, eb_80⟩ := ad_at hf
              refine rb_callS (As := [.ref v_71, .int (y6_l22_29 + 1), .ref x1, .int (y5_l22_29 + 1), .int x3]) (rest := []) C mi_J3_putCharsSB ss_J0_394 (ct_J3_putCharsSB Ev h_69 ((n_l22_29 + k_50) + k_62) v_71 (y6_l22_29 + 1) x1 (y5_l22_29 + 1) x3 r_74 _ _ _ e_78) rfl rfl (Nat.le_of_ble_eq_true rfl) ⟨Nat.le_of_ble_eq_true rfl, Nat.le_of_ble_eq_true rfl, Bd.c1 hb ea_79, Bd.s1 hb eb_80⟩ dJ0_appendChars_2_103 rb_xX (rb_kX (rb_w (kc := (((kc_l22_29 + k_50) + k_62) + k_76)) (ks := (((ks_l22_29 + s_51) + s_63) + s_77)) rfl rfl ?_))
              have hb := Bd.ade hb ea_79 eb_80
              refine rb_aload_n C dJ0_appendChars_2_106 rfl 3 rfl ?_
              refine rb_dup C dJ0_appendChars_2_107 rfl ?_
              obtain ⟨v_83, e_84, hf⟩ := rb_bd hf
              refine rb_hI C fl_J0_79_J1 e_84 dJ0_appendChars_2_108 ?_
              refine rb_iload_n C dJ0_appendChars_2_111 rfl 6 rfl ?_
              refine rb_iload C dJ0_appendChars_2_112 0 rfl ?_
              refine rb_isub C dJ0_appendChars_2_114 ?_
              refine rb_iadd C dJ0_appendChars_2_115 ?_
              obtain ⟨h_85, e_86, hf⟩ := rb_bd hf
              refine rb_hput C fw_J0_79_J1 e_86 rfl rfl dJ0_appendChars_2_116 ?_
              cases hf
              exact rb_vret C rfl hb.e.2.1 hb.e.2.2 dJ0_appendChars_2_119 ⟨rfl, rfl, hb.e.1⟩
            · have hf := (if_neg c_42).symm.trans hf
              refine rb_aload C dJ0_appendChars_2_46 5 rfl ?_
              refine rb_iload C dJ0_appendChars_2_48 7 rfl ?_
              refine rb_iinc (v := (y6_l22_29 + 1)) (lv' := [(6, .int (y6_l22_29 + 1)), (7, .int v_39), (0, .ref o), (1, .ref x1), (2, .int x2), (3, .int x3), (4, .ref v_25), (5, .int y5_l22_29)]) C dJ0_appendChars_2_50 (k := 7) rfl rfl (by decide) rfl ?_
              refine rb_iload C dJ0_appendChars_2_53 1 rfl ?_
              refine rb_i2b (v := v_39.toInt8.toInt32) C dJ0_appendChars_2_55 rfl ?_
              obtain ⟨h_87, e_88, hf⟩ := rb_bd hf
              refine rb_hbs C e_88 dJ0_appendChars_2_56 ?_
              refine rb_goto (tgt := 120) C dJ0_appendChars_2_57 (by decide) ?_
              refine rb_iinc (v := (y5_l22_29 + 1)) (lv' := [(5, .int (y5_l22_29 + 1)), (6, .int (y6_l22_29 + 1)), (7, .int v_39), (0, .ref o), (1, .ref x1), (2, .int x2), (3, .int x3), (4, .ref v_25)]) C dJ0_appendChars_2_120 (k := 7) rfl rfl (by decide) rfl ?_
              refine rb_goto (tgt := 22) C dJ0_appendChars_2_123 (by decide) ?_
              refine rb_sub [3, 4, 5, 6, 7, 0, 1] rfl ?_
              exact ih_l22_29 (y5_l22_29 + 1) (y6_l22_29 + 1) h_87 n_l22_29 _ _ _ _ hf hb
          have hf := (if_neg c_37).symm.trans hf
          by_cases c_89 : v_35 = 13
          · have hf := (if_pos c_89).symm.trans hf
            subst c_89
            obtain ⟨v_91, e_92, hf⟩ := rb_bd hf
            refine rb_callF (As := [.int y5_l22_29]) (rest := []) C mi_J1_charAt sf_J0_390_J1 ck_J1 (hp_cls_isC C.pf e_36 ck_J1) (ct_J1_charAt Ev h_l22_29 n_l22_29 x1 y5_l22_29 _ e_92) rfl rfl (Nat.le_of_ble_eq_true rfl) ⟨Nat.le_of_ble_eq_true rfl, Nat.le_of_ble_eq_true rfl, hb.c0, hb.s0⟩ dJ0_appendChars_2_31 rb_xXi (rb_kXi fun hn_90 => (rb_w (kc := kc_l22_29) (ks := ks_l22_29) rfl rfl ?_))
            refine rb_istore (lv' := [(7, .int v_91), (0, .ref o), (1, .ref x1), (2, .int x2), (3, .int x3), (4, .ref v_25), (5, .int y5_l22_29), (6, .int y6_l22_29)]) C dJ0_appendChars_2_36 (by decide) rfl ?_
            refine rb_iload C dJ0_appendChars_2_38 0 rfl ?_
            refine rb_callS (As := [.int v_91]) (rest := []) C mi_J11_canEncode ss_J0_191 (ct_J11_canEncode Ev h_l22_29 n_l22_29 v_91 _ rfl) rfl rfl (Nat.le_of_ble_eq_true rfl) ⟨Nat.le_of_ble_eq_true rfl, Nat.le_of_ble_eq_true rfl, hb.c0, hb.s0⟩ dJ0_appendChars_2_40 rb_xXi (rb_kXi fun hn_93 => (rb_w (kc := kc_l22_29) (ks := ks_l22_29) rfl rfl ?_))
            refine rb_if_eq (tgt := 60) C dJ0_appendChars_2_43 (by decide) (fun c_94 => ?_) (fun c_94 => ?_)
            · have hf := (if_pos c_94).symm.trans hf
              refine rb_aload_n C dJ0_appendChars_2_60 rfl 1 rfl ?_
              refine rb_iload C dJ0_appendChars_2_61 7 rfl ?_
              obtain ⟨h_95, e_96, hf⟩ := rb_bd hf
              refine rb_hput C fw_J0_79_J1 e_96 rfl rfl dJ0_appendChars_2_63 ?_
              refine rb_aload_n C dJ0_appendChars_2_66 rfl 1 rfl ?_
              obtain ⟨u_97, e_98, hf⟩ := rb_bd hf
              obtain ⟨⟨r_100, h_101, k_102, s_103⟩, e_104, hf⟩ := rb_bd hf
              obtain ⟨a_107, b_108, hf, ea_105, eb_106⟩ := ad_at hf
              refine rb_callVP (As := []) (rest := []) C mi_J0_inflate sp_J0_195 (hp_k_isC C.pf e_98 ck_J1) (ct_J0_inflate Ev h_95 n_l22_29 o r_100 _ _ _ e_104) rfl rfl (Nat.le_of_ble_eq_true rfl) ⟨Nat.le_of_ble_eq_true rfl, Nat.le_of_ble_eq_true rfl, Bd.c1 hb ea_105, Bd.s1 hb eb_106⟩ dJ0_appendChars_2_67 rb_xX (rb_kX (rb_w (kc := (kc_l22_29 + k_102)) (ks := (ks_l22_29 + s_103)) rfl rfl ?_))
              have hb := Bd.ade hb ea_105 eb_106
              refine rb_aload_n C dJ0_appendChars_2_70 rfl 1 rfl ?_
              obtain ⟨v_109, e_110, hf⟩ := rb_bd hf
              refine rb_hP C fl_J0_15_J1 e_110 dJ0_appendChars_2_71 ?_
              refine rb_iload C dJ0_appendChars_2_74 7 rfl ?_
              refine rb_iinc (v := (y6_l22_29 + 1)) (lv' := [(6, .int (y6_l22_29 + 1)), (7, .int v_91), (0, .ref o), (1, .ref x1), (2, .int x2), (3, .int x3), (4, .ref v_25), (5, .int y5_l22_29)]) C dJ0_appendChars_2_76 (k := 7) rfl rfl (by decide) rfl ?_
              refine rb_iload C dJ0_appendChars_2_79 1 rfl ?_
              obtain ⟨⟨r_112, h_113, k_114, s_115⟩, e_116, hf⟩ := rb_bd hf
              obtain ⟨a_119, b_120, hf, ea_117, eb_118⟩ := ad_at hf
              refine rb_callS (As := [.ref v_109, .int y6_l22_29, .int v_91]) (rest := []) C mi_J3_putCharSB ss_J0_197 (ct_J3_putCharSB Ev h_101 (n_l22_29 + k_102) v_109 y6_l22_29 v_91 r_112 _ _ _ e_116) rfl rfl (Nat.le_of_ble_eq_true rfl) ⟨Nat.le_of_ble_eq_true rfl, Nat.le_of_ble_eq_true rfl, Bd.c1 hb ea_117, Bd.s1 hb eb_118⟩ dJ0_appendChars_2_81 rb_xX (rb_kX (rb_w (kc := ((kc_l22_29 + k_102) + k_114)) (ks := ((ks_l22_29 + s_103) + s_115)) rfl rfl ?_))
              have hb := Bd.ade hb ea_117 eb_118
              refine rb_aload_n C dJ0_appendChars_2_84 rfl 2 rfl ?_
              refine rb_iload C dJ0_appendChars_2_85 0 rfl ?_
              obtain ⟨h_121, e_122, hf⟩ := rb_bd hf
              refine rb_hput C fw_J0_79_J1 e_122 rfl rfl dJ0_appendChars_2_87 ?_
              refine rb_iinc (v := (y5_l22_29 + 1)) (lv' := [(5, .int (y5_l22_29 + 1)), (6, .int (y6_l22_29 + 1)), (7, .int v_91), (0, .ref o), (1, .ref x1), (2, .int x2), (3, .int x3), (4, .ref v_25)]) C dJ0_appendChars_2_90 (k := 7) rfl rfl (by decide) rfl ?_
              refine rb_aload_n C dJ0_appendChars_2_93 rfl 3 rfl ?_
              obtain ⟨v_123, e_124, hf⟩ := rb_bd hf
              refine rb_hP C fl_J0_15_J1 e_124 dJ0_appendChars_2_94 ?_
              refine rb_iload C dJ0_appendChars_2_97 1 rfl ?_
              refine rb_aload_n C dJ0_appendChars_2_99 rfl 4 rfl ?_
              refine rb_iload C dJ0_appendChars_2_100 0 rfl ?_
              refine rb_iload_n C dJ0_appendChars_2_102 rfl 6 rfl ?_
              obtain ⟨⟨r_126, h_127, k_128, s_129⟩, e_130, hf⟩ := rb_bd hf
              obtain ⟨a_133, b_134, hf, ea_131, eb_132⟩ := ad_at hf
              refine rb_callS (As := [.ref v_123, .int (y6_l22_29 + 1), .ref x1, .int (y5_l22_29 + 1), .int x3]) (rest := []) C mi_J3_putCharsSB ss_J0_394 (ct_J3_putCharsSB Ev h_121 ((n_l22_29 + k_102) + k_114) v_123 (y6_l22_29 + 1) x1 (y5_l22_29 + 1) x3 r_126 _ _ _ e_130) rfl rfl (Nat.le_of_ble_eq_true rfl) ⟨Nat.le_of_ble_eq_true rfl, Nat.le_of_ble_eq_true rfl, Bd.c1 hb ea_131, Bd.s1 hb eb_132⟩ dJ0_appendChars_2_103 rb_xX (rb_kX (rb_w (kc := (((kc_l22_29 + k_102) + k_114) + k_128)) (ks := (((ks_l22_29 + s_103) + s_115) + s_129)) rfl rfl ?_))
              have hb := Bd.ade hb ea_131 eb_132
              refine rb_aload_n C dJ0_appendChars_2_106 rfl 3 rfl ?_
              refine rb_dup C dJ0_appendChars_2_107 rfl ?_
              obtain ⟨v_135, e_136, hf⟩ := rb_bd hf
              refine rb_hI C fl_J0_79_J1 e_136 dJ0_appendChars_2_108 ?_
              refine rb_iload_n C dJ0_appendChars_2_111 rfl 6 rfl ?_
              refine rb_iload C dJ0_appendChars_2_112 0 rfl ?_
              refine rb_isub C dJ0_appendChars_2_114 ?_
              refine rb_iadd C dJ0_appendChars_2_115 ?_
              obtain ⟨h_137, e_138, hf⟩ := rb_bd hf
              refine rb_hput C fw_J0_79_J1 e_138 rfl rfl dJ0_appendChars_2_116 ?_
              cases hf
              exact rb_vret C rfl hb.e.2.1 hb.e.2.2 dJ0_appendChars_2_119 ⟨rfl, rfl, hb.e.1⟩
            · have hf := (if_neg c_94).symm.trans hf
              refine rb_aload C dJ0_appendChars_2_46 5 rfl ?_
              refine rb_iload C dJ0_appendChars_2_48 7 rfl ?_
              refine rb_iinc (v := (y6_l22_29 + 1)) (lv' := [(6, .int (y6_l22_29 + 1)), (7, .int v_91), (0, .ref o), (1, .ref x1), (2, .int x2), (3, .int x3), (4, .ref v_25), (5, .int y5_l22_29)]) C dJ0_appendChars_2_50 (k := 7) rfl rfl (by decide) rfl ?_
              refine rb_iload C dJ0_appendChars_2_53 1 rfl ?_
              refine rb_i2b (v := v_91.toInt8.toInt32) C dJ0_appendChars_2_55 rfl ?_
              obtain ⟨h_139, e_140, hf⟩ := rb_bd hf
              refine rb_hbs C e_140 dJ0_appendChars_2_56 ?_
              refine rb_goto (tgt := 120) C dJ0_appendChars_2_57 (by decide) ?_
              refine rb_iinc (v := (y5_l22_29 + 1)) (lv' := [(5, .int (y5_l22_29 + 1)), (6, .int (y6_l22_29 + 1)), (7, .int v_91), (0, .ref o), (1, .ref x1), (2, .int x2), (3, .int x3), (4, .ref v_25)]) C dJ0_appendChars_2_120 (k := 7) rfl rfl (by decide) rfl ?_
              refine rb_goto (tgt := 22) C dJ0_appendChars_2_123 (by decide) ?_
              refine rb_sub [3, 4, 5, 6, 7, 0, 1] rfl ?_
              exact ih_l22_29 (y5_l22_29 + 1) (y6_l22_29 + 1) h_139 n_l22_29 _ _ _ _ hf hb
          have hf := (if_neg c_89).symm.trans hf
          cases hf
    refine rb_sub [3, 4, 5, 6, 2, 1, 0] rfl ?_
    exact L_l22_29 4096 x2 v_27 h n _ _ _ _ hf hb
def f_J2_value (Ev : rb_E) (h : AH) (o : Nat) : Option Nat := ((hp_p Ev h o 14 0).bind fun v_1 => (some v_1))
abbrev rm_J2_value : Room := { frames := 0, cells := 0, slots := 0, locals := 0 }
set_option maxHeartbeats 4000000 in
theorem ct_J2_value (Ev : rb_E) (h : AH) (n : Nat) (o : Nat) (r : Nat) (hf : f_J2_value Ev h o = some r) : Ct Ev yJ2_value (ws_ yJ2_value cJ2_value 1 (some (.array .byte))) (rm_J2_value) [.ref o] h n (pX (.inl (some (.ref r))) h n) := by
  rw [f_J2_value] at hf
  refine Ct.of rfl (Nat.le_of_ble_eq_true rfl) fun X C hnm => ?_
  have C : Cx Ev X RJ2 cJ2_value 1 (some (.array .byte)) [] := C
  show Wa Ev X (rm_J2_value) 1 h n 0 0 (rb_MQ Ev X (rm_J2_value) (pX (.inl (some (.ref r))) h n)) 0 [(0, .ref o)] []
  refine rb_aload_n C dJ2_value_0 rfl 0 rfl ?_
  obtain ⟨v_1, e_2, hf⟩ := rb_bd hf
  refine rb_hP C fl_J2_9_J2 e_2 dJ2_value_1 ?_
  cases hf
  exact rb_aret C rfl (Or.inr ⟨_, rfl⟩) (Or.inr ⟨_, rfl⟩) (Nat.zero_le _) (Nat.zero_le _) dJ2_value_4 ⟨rfl, rfl, rfl⟩
def f_J0_appendChars_j194_13 (Ev : rb_E) (o : Nat) (x2 : Int32) (x3 : Int32) (h_j194_13 : AH) (n_j194_13 : Nat) : Option (Unit × AH × Nat × Nat) := ((hp_i Ev h_j194_13 o 13 3).bind fun v_14 => ((hp_put h_j194_13 o 13 3 (.int (v_14 + (x3 - x2)))).bind fun h_16 => (some ((), h_16, 0, 0))))
def f_J0_appendChars_l51_53 (Ev : rb_E) (o : Nat) (x1 : Nat) (x2 : Int32) (x3 : Int32) (v_49 : Nat) : Nat → Int32 → Int32 → AH → Nat → Option (Unit × AH × Nat × Nat)
  | 0, _, _, _, _ => none
  | k_l51_53 + 1, y5_l51_53, y6_l51_53, h_l51_53, n_l51_53 => (if x3 ≤ y5_l51_53 then ((hp_i Ev h_l51_53 o 13 3).bind fun v_55 => ((hp_put h_l51_53 o 13 3 (.int (v_55 + (x3 - x2)))).bind fun h_57 => (some ((), h_57, 0, 0)))) else ((hp_k Ev h_l51_53 x1 14).bind fun u_59 => ((f_J2_charAt Ev h_l51_53 x1 y5_l51_53).bind fun v_62 => (if (f_J11_canEncode v_62) = 0 then ((hp_put h_l51_53 o 13 3 (.int y6_l51_53)).bind fun h_66 => ((hp_k Ev h_66 o 13).bind fun u_68 => ((f_J0_inflate Ev h_66 n_l51_53 o).bind fun (r_71, h_72, k_73, s_74) => (ad k_73 s_74 ((hp_k Ev h_72 x1 14).bind fun u_80 => ((f_J2_value Ev h_72 x1).bind fun v_83 => ((hp_p Ev h_72 o 13 0).bind fun v_85 => ((hp_cpi Ev h_72 1 .byte v_83 (y5_l51_53 <<< (1 &&& 31)) v_85 (y6_l51_53 <<< (1 &&& 31)) ((x3 - y5_l51_53) <<< (1 &&& 31))).bind fun h_87 => ((hp_i Ev h_87 o 13 3).bind fun v_89 => ((hp_put h_87 o 13 3 (.int (v_89 + (x3 - y5_l51_53)))).bind fun h_91 => (some ((), h_91, 0, 0)))))))))))) else ((hp_bs Ev h_l51_53 v_49 y6_l51_53 v_62.toInt8.toInt32).bind fun h_93 => ((f_J0_appendChars_l51_53 Ev o x1 x2 x3 v_49 k_l51_53) (y5_l51_53 + 1) (y6_l51_53 + 1) h_93 n_l51_53))))))
def f_J0_appendChars (Ev : rb_E) (h : AH) (n : Nat) (o : Nat) (x1 : Nat) (x2 : Int32) (x3 : Int32) : Option (Unit × AH × Nat × Nat) := ((hp_k Ev h o 13).bind fun u_1 => ((f_J0_isLatin1 Ev h o).bind fun v_4 => (if v_4 = 0 then ((hp_k Ev h x1 14).bind fun u_7 => ((f_J2_isLatin1 Ev h x1).bind fun v_10 => (if v_10 = 0 then ((hp_k Ev h x1 14).bind fun u_18 => ((f_J2_value Ev h x1).bind fun v_21 => ((hp_p Ev h o 13 0).bind fun v_23 => ((hp_i Ev h o 13 3).bind fun v_25 => ((hp_cpi Ev h 1 .byte v_21 (x2 <<< (1 &&& 31)) v_23 (v_25 <<< (1 &&& 31)) ((x3 - x2) <<< (1 &&& 31))).bind fun h_27 => (f_J0_appendChars_j194_13 Ev o x2 x3 h_27 n)))))) else ((hp_p Ev h o 13 0).bind fun v_29 => ((hp_i Ev h o 13 3).bind fun v_31 => ((f_J3_putCharsSB Ev h n v_29 v_31 x1 x2 x3).bind fun (r_34, h_35, k_36, s_37) => (ad k_36 s_37 (f_J0_appendChars_j194_13 Ev o x2 x3 h_35 (n + k_36))))))))) else ((hp_k Ev h x1 14).bind fun u_43 => ((f_J2_isLatin1 Ev h x1).bind fun v_46 => (if v_46 = 0 then ((hp_p Ev h o 13 0).bind fun v_49 => ((hp_i Ev h o 13 3).bind fun v_51 => (f_J0_appendChars_l51_53 Ev o x1 x2 x3 v_49 4096 x2 v_51 h n))) else ((hp_k Ev h x1 14).bind fun u_95 => ((f_J2_value Ev h x1).bind fun v_98 => ((hp_p Ev h o 13 0).bind fun v_100 => ((hp_i Ev h o 13 3).bind fun v_102 => ((hp_cpi Ev h 1 .byte v_98 x2 v_100 v_102 (x3 - x2)).bind fun h_104 => ((hp_i Ev h_104 o 13 3).bind fun v_106 => ((hp_put h_104 o 13 3 (.int (v_106 + (x3 - x2)))).bind fun h_108 => (some ((), h_108, 0, 0)))))))))))))))
abbrev rm_J0_appendChars (k s : Nat) : Room := { frames := 6, cells := k, slots := s, locals := 137 }
set_option maxHeartbeats 4000000 in
theorem ct_J0_appendChars (Ev : rb_E) (h : AH) (n : Nat) (o : Nat) (x1 : Nat) (x2 : Int32) (x3 : Int32) (r : Unit) (h' : AH) (k s : Nat) (hf : f_J0_appendChars Ev h n o x1 x2 x3 = some (r, h', k, s)) : Ct Ev yJ0_appendChars (ws_ yJ0_appendChars cJ0_appendChars 8 none) (rm_J0_appendChars k s) [.ref o, .ref x1, .int x2, .int x3] h n (pX (.inl (none)) h' (n + k)) := by
  rw [f_J0_appendChars] at hf
  refine Ct.of rfl (Nat.le_of_ble_eq_true rfl) fun X C hnm => ?_
  have C : Cx Ev X RJ0 cJ0_appendChars 8 none [] := C
  show Wa Ev X (rm_J0_appendChars k s) 8 h n 0 0 (rb_MQ Ev X (rm_J0_appendChars k s) (pX (.inl (none)) h' (n + k))) 0 [(0, .ref o), (1, .ref x1), (2, .int x2), (3, .int x3)] []
  have hb : Bd (n + k) k s n 0 0 k s := ⟨rfl, Nat.le_of_eq (Nat.zero_add _), Nat.le_of_eq (Nat.zero_add _)⟩
  refine rb_aload_n C dJ0_appendChars_0 rfl 0 rfl ?_
  obtain ⟨u_1, e_2, hf⟩ := rb_bd hf
  obtain ⟨v_4, e_5, hf⟩ := rb_bd hf
  refine rb_callU (As := []) (rest := []) C mi_J0_isLatin1 su_J0_83_J1 (hp_k_isC C.pf e_2 ck_J1) (ct_J0_isLatin1 Ev h n o _ e_5) rfl rfl (Nat.le_of_ble_eq_true rfl) ⟨Nat.le_of_ble_eq_true rfl, Nat.le_of_ble_eq_true rfl, hb.c0, hb.s0⟩ dJ0_appendChars_1 rb_xXi (rb_kXi fun hn_3 => (rb_w (kc := 0) (ks := 0) rfl rfl ?_))
  refine rb_if_eq (tgt := 145) C dJ0_appendChars_4 (by decide) (fun c_6 => ?_) (fun c_6 => ?_)
  · have hf := (if_pos c_6).symm.trans hf
    refine rb_aload_n C dJ0_appendChars_145 rfl 1 rfl ?_
    obtain ⟨u_7, e_8, hf⟩ := rb_bd hf
    obtain ⟨v_10, e_11, hf⟩ := rb_bd hf
    refine rb_callV (As := []) (rest := []) C mi_J2_isLatin1 sv_J0_400 (hp_k_isC C.pf e_8 ck_J2) (ct_J2_isLatin1 Ev h n x1 _ e_11) rfl rfl (Nat.le_of_ble_eq_true rfl) ⟨Nat.le_of_ble_eq_true rfl, Nat.le_of_ble_eq_true rfl, hb.c0, hb.s0⟩ dJ0_appendChars_146 rb_xXi (rb_kXi fun hn_9 => (rb_w (kc := 0) (ks := 0) rfl rfl ?_))
    have J_j194_13 : ∀ (h_j194_13 : AH) (n_j194_13 : Nat) (kc_j194_13 ks_j194_13 a_ b_ : Nat), f_J0_appendChars_j194_13 Ev o x2 x3 h_j194_13 n_j194_13 = some (r, h', a_, b_) → Bd (n + k) k s n_j194_13 kc_j194_13 ks_j194_13 a_ b_ → Wa Ev X (rm_J0_appendChars k s) 8 h_j194_13 n_j194_13 kc_j194_13 ks_j194_13 (rb_MQ Ev X (rm_J0_appendChars k s) (pX (.inl (none)) h' (n + k))) 194 [(0, .ref o), (1, .ref x1), (2, .int x2), (3, .int x3)] [] := by
      intro h_j194_13 n_j194_13 kc_j194_13 ks_j194_13 a_ b_ hf hb
      rw [f_J0_appendChars_j194_13] at hf
      refine rb_aload_n C dJ0_appendChars_194 rfl 0 rfl ?_
      refine rb_dup C dJ0_appendChars_195 rfl ?_
      obtain ⟨v_14, e_15, hf⟩ := rb_bd hf
      refine rb_hI C fl_J0_79_J1 e_15 dJ0_appendChars_196 ?_
      refine rb_iload_n C dJ0_appendChars_199 rfl 3 rfl ?_
      refine rb_iload_n C dJ0_appendChars_200 rfl 2 rfl ?_
      refine rb_isub C dJ0_appendChars_201 ?_
      refine rb_iadd C dJ0_appendChars_202 ?_
      obtain ⟨h_16, e_17, hf⟩ := rb_bd hf
      refine rb_hput C fw_J0_79_J1 e_17 rfl rfl dJ0_appendChars_203 ?_
      cases hf
      exact rb_vret C rfl hb.e.2.1 hb.e.2.2 dJ0_appendChars_206 ⟨rfl, rfl, hb.e.1⟩
    refine rb_if_eq (tgt := 169) C dJ0_appendChars_149 (by decide) (fun c_12 => ?_) (fun c_12 => ?_)
    · have hf := (if_pos c_12).symm.trans hf
      refine rb_aload_n C dJ0_appendChars_169 rfl 1 rfl ?_
      obtain ⟨u_18, e_19, hf⟩ := rb_bd hf
      obtain ⟨v_21, e_22, hf⟩ := rb_bd hf
      refine rb_callV (As := []) (rest := []) C mi_J2_value sv_J0_401 (hp_k_isC C.pf e_19 ck_J2) (ct_J2_value Ev h n x1 _ e_22) rfl rfl (Nat.le_of_ble_eq_true rfl) ⟨Nat.le_of_ble_eq_true rfl, Nat.le_of_ble_eq_true rfl, hb.c0, hb.s0⟩ dJ0_appendChars_170 rb_xX (rb_kX (rb_w (kc := 0) (ks := 0) rfl rfl ?_))
      refine rb_iload_n C dJ0_appendChars_173 rfl 2 rfl ?_
      refine rb_iconst (v := 1) C dJ0_appendChars_174 rfl ?_
      refine rb_ishl C dJ0_appendChars_175 ?_
      refine rb_aload_n C dJ0_appendChars_176 rfl 0 rfl ?_
      obtain ⟨v_23, e_24, hf⟩ := rb_bd hf
      refine rb_hP C fl_J0_15_J1 e_24 dJ0_appendChars_177 ?_
      refine rb_aload_n C dJ0_appendChars_180 rfl 0 rfl ?_
      obtain ⟨v_25, e_26, hf⟩ := rb_bd hf
      refine rb_hI C fl_J0_79_J1 e_26 dJ0_appendChars_181 ?_
      refine rb_iconst (v := 1) C dJ0_appendChars_184 rfl ?_
      refine rb_ishl C dJ0_appendChars_185 ?_
      refine rb_iload_n C dJ0_appendChars_186 rfl 3 rfl ?_
      refine rb_iload_n C dJ0_appendChars_187 rfl 2 rfl ?_
      refine rb_isub C dJ0_appendChars_188 ?_
      refine rb_iconst (v := 1) C dJ0_appendChars_189 rfl ?_
      refine rb_ishl C dJ0_appendChars_190 ?_
      obtain ⟨h_27, e_28, hf⟩ := rb_bd hf
      refine rb_hcpi C 1 q426 q310 q309 q83 rfl rfl e_28 (Nat.le_of_ble_eq_true rfl) (Nat.le_of_ble_eq_true rfl) dJ0_appendChars_191 ?_
      exact J_j194_13 h_27 n  _ _ _ _ hf hb
    · have hf := (if_neg c_12).symm.trans hf
      refine rb_aload_n C dJ0_appendChars_152 rfl 0 rfl ?_
      obtain ⟨v_29, e_30, hf⟩ := rb_bd hf
      refine rb_hP C fl_J0_15_J1 e_30 dJ0_appendChars_153 ?_
      refine rb_aload_n C dJ0_appendChars_156 rfl 0 rfl ?_
      obtain ⟨v_31, e_32, hf⟩ := rb_bd hf
      refine rb_hI C fl_J0_79_J1 e_32 dJ0_appendChars_157 ?_
      refine rb_aload_n C dJ0_appendChars_160 rfl 1 rfl ?_
      refine rb_iload_n C dJ0_appendChars_161 rfl 2 rfl ?_
      refine rb_iload_n C dJ0_appendChars_162 rfl 3 rfl ?_
      obtain ⟨⟨r_34, h_35, k_36, s_37⟩, e_38, hf⟩ := rb_bd hf
      obtain ⟨a_41, b_42, hf, ea_39, eb_40⟩ := ad_at hf
      refine rb_callS (As := [.ref v_29, .int v_31, .ref x1, .int x2, .int x3]) (rest := []) C mi_J3_putCharsSB ss_J0_394 (ct_J3_putCharsSB Ev h n v_29 v_31 x1 x2 x3 r_34 _ _ _ e_38) rfl rfl (Nat.le_of_ble_eq_true rfl) ⟨Nat.le_of_ble_eq_true rfl, Nat.le_of_ble_eq_true rfl, Bd.c1 hb ea_39, Bd.s1 hb eb_40⟩ dJ0_appendChars_163 rb_xX (rb_kX (rb_w (kc := (0 + k_36)) (ks := (0 + s_37)) rfl rfl ?_))
      have hb := Bd.ade hb ea_39 eb_40
      refine rb_goto (tgt := 194) C dJ0_appendChars_166 (by decide) ?_
      exact J_j194_13 h_35 (n + k_36)  _ _ _ _ hf hb
  · have hf := (if_neg c_6).symm.trans hf
    refine rb_aload_n C dJ0_appendChars_7 rfl 1 rfl ?_
    obtain ⟨u_43, e_44, hf⟩ := rb_bd hf
    obtain ⟨v_46, e_47, hf⟩ := rb_bd hf
    refine rb_callV (As := []) (rest := []) C mi_J2_isLatin1 sv_J0_400 (hp_k_isC C.pf e_44 ck_J2) (ct_J2_isLatin1 Ev h n x1 _ e_47) rfl rfl (Nat.le_of_ble_eq_true rfl) ⟨Nat.le_of_ble_eq_true rfl, Nat.le_of_ble_eq_true rfl, hb.c0, hb.s0⟩ dJ0_appendChars_8 rb_xXi (rb_kXi fun hn_45 => (rb_w (kc := 0) (ks := 0) rfl rfl ?_))
    refine rb_if_eq (tgt := 36) C dJ0_appendChars_11 (by decide) (fun c_48 => ?_) (fun c_48 => ?_)
    · have hf := (if_pos c_48).symm.trans hf
      refine rb_aload_n C dJ0_appendChars_36 rfl 0 rfl ?_
      obtain ⟨v_49, e_50, hf⟩ := rb_bd hf
      refine rb_hP C fl_J0_15_J1 e_50 dJ0_appendChars_37 ?_
      refine rb_astore (lv' := [(4, .ref v_49), (0, .ref o), (1, .ref x1), (2, .int x2), (3, .int x3)]) C dJ0_appendChars_40 (by decide) rfl ?_
      refine rb_iload_n C dJ0_appendChars_42 rfl 3 rfl ?_
      refine rb_istore (lv' := [(5, .int x2), (4, .ref v_49), (0, .ref o), (1, .ref x1), (2, .int x2), (3, .int x3)]) C dJ0_appendChars_43 (by decide) rfl ?_
      refine rb_aload_n C dJ0_appendChars_45 rfl 2 rfl ?_
      obtain ⟨v_51, e_52, hf⟩ := rb_bd hf
      refine rb_hI C fl_J0_79_J1 e_52 dJ0_appendChars_46 ?_
      refine rb_istore (lv' := [(6, .int v_51), (5, .int x2), (4, .ref v_49), (0, .ref o), (1, .ref x1), (2, .int x2), (3, .int x3)]) C dJ0_appendChars_49 (by decide) rfl ?_
      have L_l51_53 : ∀ (k_l51_53 : Nat) (y5_l51_53 : Int32) (y6_l51_53 : Int32) (h_l51_53 : AH) (n_l51_53 kc_l51_53 ks_l51_53 a_ b_ : Nat), f_J0_appendChars_l51_53 Ev o x1 x2 x3 v_49 k_l51_53 y5_l51_53 y6_l51_53 h_l51_53 n_l51_53 = some (r, h', a_, b_) → Bd (n + k) k s n_l51_53 kc_l51_53 ks_l51_53 a_ b_ → Wa Ev X (rm_J0_appendChars k s) 8 h_l51_53 n_l51_53 kc_l51_53 ks_l51_53 (rb_MQ Ev X (rm_J0_appendChars k s) (pX (.inl (none)) h' (n + k))) 51 [(0, .ref o), (1, .ref x1), (2, .int x2), (3, .int x3), (4, .ref v_49), (5, .int y5_l51_53), (6, .int y6_l51_53)] [] := by
        intro k_l51_53
        induction k_l51_53 with
        | zero => intro y5_l51_53 y6_l51_53 h_l51_53 n_l51_53 kc_l51_53 ks_l51_53 a_ b_ hf hb; cases hf
        | succ k_l51_53 ih_l51_53 =>
          intro y5_l51_53 y6_l51_53 h_l51_53 n_l51_53 kc_l51_53 ks_l51_53 a_ b_ hf hb
          rw [f_J0_appendChars_l51_53] at hf
          refine rb_iload C dJ0_appendChars_51 5 rfl ?_
          refine rb_iload_n C dJ0_appendChars_53 rfl 3 rfl ?_
          refine rb_icmp_ge (tgt := 142) C dJ0_appendChars_54 (by decide) (fun c_54 => ?_) (fun c_54 => ?_)
          · have hf := (if_pos c_54).symm.trans hf
            refine rb_goto (tgt := 194) C dJ0_appendChars_142 (by decide) ?_
            refine rb_aload_n C dJ0_appendChars_194 rfl 0 rfl ?_
            refine rb_dup C dJ0_appendChars_195 rfl ?_
            obtain ⟨v_55, e_56, hf⟩ := rb_bd hf
            refine rb_hI C fl_J0_79_J1 e_56 dJ0_appendChars_196 ?_
            refine rb_iload_n C dJ0_appendChars_199 rfl 3 rfl ?_
            refine rb_iload_n C dJ0_appendChars_200 rfl 2 rfl ?_
            refine rb_isub C dJ0_appendChars_201 ?_
            refine rb_iadd C dJ0_appendChars_202 ?_
            obtain ⟨h_57, e_58, hf⟩ := rb_bd hf
            refine rb_hput C fw_J0_79_J1 e_58 rfl rfl dJ0_appendChars_203 ?_
            cases hf
            exact rb_vret C rfl hb.e.2.1 hb.e.2.2 dJ0_appendChars_206 ⟨rfl, rfl, hb.e.1⟩
          · have hf := (if_neg c_54).symm.trans hf
            refine rb_aload_n C dJ0_appendChars_57 rfl 1 rfl ?_
            refine rb_iload C dJ0_appendChars_58 5 rfl ?_
            obtain ⟨u_59, e_60, hf⟩ := rb_bd hf
            obtain ⟨v_62, e_63, hf⟩ := rb_bd hf
            refine rb_callV (As := [.int y5_l51_53]) (rest := []) C mi_J2_charAt sv_J0_404 (hp_k_isC C.pf e_60 ck_J2) (ct_J2_charAt Ev h_l51_53 n_l51_53 x1 y5_l51_53 _ e_63) rfl rfl (Nat.le_of_ble_eq_true rfl) ⟨Nat.le_of_ble_eq_true rfl, Nat.le_of_ble_eq_true rfl, hb.c0, hb.s0⟩ dJ0_appendChars_60 rb_xXi (rb_kXi fun hn_61 => (rb_w (kc := kc_l51_53) (ks := ks_l51_53) rfl rfl ?_))
            refine rb_istore (lv' := [(7, .int v_62), (0, .ref o), (1, .ref x1), (2, .int x2), (3, .int x3), (4, .ref v_49), (5, .int y5_l51_53), (6, .int y6_l51_53)]) C dJ0_appendChars_63 (by decide) rfl ?_
            refine rb_iload C dJ0_appendChars_65 0 rfl ?_
            refine rb_callS (As := [.int v_62]) (rest := []) C mi_J11_canEncode ss_J0_191 (ct_J11_canEncode Ev h_l51_53 n_l51_53 v_62 _ rfl) rfl rfl (Nat.le_of_ble_eq_true rfl) ⟨Nat.le_of_ble_eq_true rfl, Nat.le_of_ble_eq_true rfl, hb.c0, hb.s0⟩ dJ0_appendChars_67 rb_xXi (rb_kXi fun hn_64 => (rb_w (kc := kc_l51_53) (ks := ks_l51_53) rfl rfl ?_))
            refine rb_if_eq (tgt := 87) C dJ0_appendChars_70 (by decide) (fun c_65 => ?_) (fun c_65 => ?_)
            · have hf := (if_pos c_65).symm.trans hf
              refine rb_aload_n C dJ0_appendChars_87 rfl 1 rfl ?_
              refine rb_iload C dJ0_appendChars_88 7 rfl ?_
              obtain ⟨h_66, e_67, hf⟩ := rb_bd hf
              refine rb_hput C fw_J0_79_J1 e_67 rfl rfl dJ0_appendChars_90 ?_
              refine rb_aload_n C dJ0_appendChars_93 rfl 1 rfl ?_
              obtain ⟨u_68, e_69, hf⟩ := rb_bd hf
              obtain ⟨⟨r_71, h_72, k_73, s_74⟩, e_75, hf⟩ := rb_bd hf
              obtain ⟨a_78, b_79, hf, ea_76, eb_77⟩ := ad_at hf
              refine rb_callVP (As := []) (rest := []) C mi_J0_inflate sp_J0_195 (hp_k_isC C.pf e_69 ck_J1) (ct_J0_inflate Ev h_66 n_l51_53 o r_71 _ _ _ e_75) rfl rfl (Nat.le_of_ble_eq_true rfl) ⟨Nat.le_of_ble_eq_true rfl, Nat.le_of_ble_eq_true rfl, Bd.c1 hb ea_76, Bd.s1 hb eb_77⟩ dJ0_appendChars_94 rb_xX (rb_kX (rb_w (kc := (kc_l51_53 + k_73)) (ks := (ks_l51_53 + s_74)) rfl rfl ?_))
              have hb := Bd.ade hb ea_76 eb_77
              refine rb_aload_n C dJ0_appendChars_97 rfl 2 rfl ?_
              obtain ⟨u_80, e_81, hf⟩ := rb_bd hf
              obtain ⟨v_83, e_84, hf⟩ := rb_bd hf
              refine rb_callV (As := []) (rest := []) C mi_J2_value sv_J0_401 (hp_k_isC C.pf e_81 ck_J2) (ct_J2_value Ev h_72 (n_l51_53 + k_73) x1 _ e_84) rfl rfl (Nat.le_of_ble_eq_true rfl) ⟨Nat.le_of_ble_eq_true rfl, Nat.le_of_ble_eq_true rfl, hb.c0, hb.s0⟩ dJ0_appendChars_98 rb_xX (rb_kX (rb_w (kc := (kc_l51_53 + k_73)) (ks := (ks_l51_53 + s_74)) rfl rfl ?_))
              refine rb_iload C dJ0_appendChars_101 6 rfl ?_
              refine rb_iconst (v := 1) C dJ0_appendChars_103 rfl ?_
              refine rb_ishl C dJ0_appendChars_104 ?_
              refine rb_aload_n C dJ0_appendChars_105 rfl 1 rfl ?_
              obtain ⟨v_85, e_86, hf⟩ := rb_bd hf
              refine rb_hP C fl_J0_15_J1 e_86 dJ0_appendChars_106 ?_
              refine rb_iload C dJ0_appendChars_109 7 rfl ?_
              refine rb_iconst (v := 1) C dJ0_appendChars_111 rfl ?_
              refine rb_ishl C dJ0_appendChars_112 ?_
              refine rb_iload_n C dJ0_appendChars_113 rfl 4 rfl ?_
              refine rb_iload C dJ0_appendChars_114 6 rfl ?_
              refine rb_isub C dJ0_appendChars_116 ?_
              refine rb_iconst (v := 1) C dJ0_appendChars_117 rfl ?_
              refine rb_ishl C dJ0_appendChars_118 ?_
              obtain ⟨h_87, e_88, hf⟩ := rb_bd hf
              refine rb_hcpi C 1 q426 q310 q309 q83 rfl rfl e_88 (Nat.le_of_ble_eq_true rfl) (Nat.le_of_ble_eq_true rfl) dJ0_appendChars_119 ?_
              refine rb_aload_n C dJ0_appendChars_122 rfl 1 rfl ?_
              refine rb_dup C dJ0_appendChars_123 rfl ?_
              obtain ⟨v_89, e_90, hf⟩ := rb_bd hf
              refine rb_hI C fl_J0_79_J1 e_90 dJ0_appendChars_124 ?_
              refine rb_iload_n C dJ0_appendChars_127 rfl 4 rfl ?_
              refine rb_iload C dJ0_appendChars_128 6 rfl ?_
              refine rb_isub C dJ0_appendChars_130 ?_
              refine rb_iadd C dJ0_appendChars_131 ?_
              obtain ⟨h_91, e_92, hf⟩ := rb_bd hf
              refine rb_hput C fw_J0_79_J1 e_92 rfl rfl dJ0_appendChars_132 ?_
              cases hf
              exact rb_vret C rfl hb.e.2.1 hb.e.2.2 dJ0_appendChars_135 ⟨rfl, rfl, hb.e.1⟩
            · have hf := (if_neg c_65).symm.trans hf
              refine rb_aload C dJ0_appendChars_73 5 rfl ?_
              refine rb_iload C dJ0_appendChars_75 7 rfl ?_
              refine rb_iinc (v := (y6_l51_53 + 1)) (lv' := [(6, .int (y6_l51_53 + 1)), (7, .int v_62), (0, .ref o), (1, .ref x1), (2, .int x2), (3, .int x3), (4, .ref v_49), (5, .int y5_l51_53)]) C dJ0_appendChars_77 (k := 7) rfl rfl (by decide) rfl ?_
              refine rb_iload C dJ0_appendChars_80 1 rfl ?_
              refine rb_i2b (v := v_62.toInt8.toInt32) C dJ0_appendChars_82 rfl ?_
              obtain ⟨h_93, e_94, hf⟩ := rb_bd hf
              refine rb_hbs C e_94 dJ0_appendChars_83 ?_
              refine rb_goto (tgt := 136) C dJ0_appendChars_84 (by decide) ?_
              refine rb_iinc (v := (y5_l51_53 + 1)) (lv' := [(5, .int (y5_l51_53 + 1)), (6, .int (y6_l51_53 + 1)), (7, .int v_62), (0, .ref o), (1, .ref x1), (2, .int x2), (3, .int x3), (4, .ref v_49)]) C dJ0_appendChars_136 (k := 7) rfl rfl (by decide) rfl ?_
              refine rb_goto (tgt := 51) C dJ0_appendChars_139 (by decide) ?_
              refine rb_sub [3, 4, 5, 6, 7, 0, 1] rfl ?_
              exact ih_l51_53 (y5_l51_53 + 1) (y6_l51_53 + 1) h_93 n_l51_53 _ _ _ _ hf hb
      refine rb_sub [3, 4, 5, 6, 2, 1, 0] rfl ?_
      exact L_l51_53 4096 x2 v_51 h n _ _ _ _ hf hb
    · have hf := (if_neg c_48).symm.trans hf
      refine rb_aload_n C dJ0_appendChars_14 rfl 1 rfl ?_
      obtain ⟨u_95, e_96, hf⟩ := rb_bd hf
      obtain ⟨v_98, e_99, hf⟩ := rb_bd hf
      refine rb_callV (As := []) (rest := []) C mi_J2_value sv_J0_401 (hp_k_isC C.pf e_96 ck_J2) (ct_J2_value Ev h n x1 _ e_99) rfl rfl (Nat.le_of_ble_eq_true rfl) ⟨Nat.le_of_ble_eq_true rfl, Nat.le_of_ble_eq_true rfl, hb.c0, hb.s0⟩ dJ0_appendChars_15 rb_xX (rb_kX (rb_w (kc := 0) (ks := 0) rfl rfl ?_))
      refine rb_iload_n C dJ0_appendChars_18 rfl 2 rfl ?_
      refine rb_aload_n C dJ0_appendChars_19 rfl 0 rfl ?_
      obtain ⟨v_100, e_101, hf⟩ := rb_bd hf
      refine rb_hP C fl_J0_15_J1 e_101 dJ0_appendChars_20 ?_
      refine rb_aload_n C dJ0_appendChars_23 rfl 0 rfl ?_
      obtain ⟨v_102, e_103, hf⟩ := rb_bd hf
      refine rb_hI C fl_J0_79_J1 e_103 dJ0_appendChars_24 ?_
      refine rb_iload_n C dJ0_appendChars_27 rfl 3 rfl ?_
      refine rb_iload_n C dJ0_appendChars_28 rfl 2 rfl ?_
      refine rb_isub C dJ0_appendChars_29 ?_
      obtain ⟨h_104, e_105, hf⟩ := rb_bd hf
      refine rb_hcpi C 1 q426 q310 q309 q83 rfl rfl e_105 (Nat.le_of_ble_eq_true rfl) (Nat.le_of_ble_eq_true rfl) dJ0_appendChars_30 ?_
      refine rb_goto (tgt := 194) C dJ0_appendChars_33 (by decide) ?_
      refine rb_aload_n C dJ0_appendChars_194 rfl 0 rfl ?_
      refine rb_dup C dJ0_appendChars_195 rfl ?_
      obtain ⟨v_106, e_107, hf⟩ := rb_bd hf
      refine rb_hI C fl_J0_79_J1 e_107 dJ0_appendChars_196 ?_
      refine rb_iload_n C dJ0_appendChars_199 rfl 3 rfl ?_
      refine rb_iload_n C dJ0_appendChars_200 rfl 2 rfl ?_
      refine rb_isub C dJ0_appendChars_201 ?_
      refine rb_iadd C dJ0_appendChars_202 ?_
      obtain ⟨h_108, e_109, hf⟩ := rb_bd hf
      refine rb_hput C fw_J0_79_J1 e_109 rfl rfl dJ0_appendChars_203 ?_
      cases hf
      exact rb_vret C rfl hb.e.2.1 hb.e.2.2 dJ0_appendChars_206 ⟨rfl, rfl, hb.e.1⟩
def f_J0_length (Ev : rb_E) (h : AH) (o : Nat) : Option Int32 := ((hp_i Ev h o 13 3).bind fun v_1 => (some v_1))
abbrev rm_J0_length : Room := { frames := 0, cells := 0, slots := 0, locals := 0 }
set_option maxHeartbeats 4000000 in
theorem ct_J0_length (Ev : rb_E) (h : AH) (n : Nat) (o : Nat) (r : Int32) (hf : f_J0_length Ev h o = some r) : Ct Ev yJ0_length (ws_ yJ0_length cJ0_length 1 (some .int)) (rm_J0_length) [.ref o] h n (pXi .int r h n) := by
  rw [f_J0_length] at hf
  refine Ct.of rfl (Nat.le_of_ble_eq_true rfl) fun X C hnm => ?_
  have C : Cx Ev X RJ0 cJ0_length 1 (some .int) [] := C
  show Wa Ev X (rm_J0_length) 1 h n 0 0 (rb_MQ Ev X (rm_J0_length) (pXi .int r h n)) 0 [(0, .ref o)] []
  refine rb_aload_n C dJ0_length_0 rfl 0 rfl ?_
  obtain ⟨v_1, e_2, hf⟩ := rb_bd hf
  refine rb_hI C fl_J0_79_J1 e_2 dJ0_length_1 ?_
  cases hf
  exact rb_iret C rfl rfl (Nat.zero_le _) (Nat.zero_le _) dJ0_length_4 ⟨rfl, rfl, rfl, rfl⟩
def f_J1_length (Ev : rb_E) (h : AH) (o : Nat) : Option Int32 := ((hp_k Ev h o 13).bind fun u_1 => ((f_J0_length Ev h o).bind fun v_4 => (some v_4)))
abbrev rm_J1_length : Room := { frames := 1, cells := 0, slots := 0, locals := 20 }
set_option maxHeartbeats 4000000 in
theorem ct_J1_length (Ev : rb_E) (h : AH) (n : Nat) (o : Nat) (r : Int32) (hf : f_J1_length Ev h o = some r) : Ct Ev yJ1_length (ws_ yJ1_length cJ1_length 1 (some .int)) (rm_J1_length) [.ref o] h n (pXi .int r h n) := by
  rw [f_J1_length] at hf
  refine Ct.of rfl (Nat.le_of_ble_eq_true rfl) fun X C hnm => ?_
  have C : Cx Ev X RJ1 cJ1_length 1 (some .int) [] := C
  show Wa Ev X (rm_J1_length) 1 h n 0 0 (rb_MQ Ev X (rm_J1_length) (pXi .int r h n)) 0 [(0, .ref o)] []
  refine rb_aload_n C dJ1_length_0 rfl 0 rfl ?_
  obtain ⟨u_1, e_2, hf⟩ := rb_bd hf
  obtain ⟨v_4, e_5, hf⟩ := rb_bd hf
  refine rb_callSU (As := []) (rest := []) C mi_J0_length sx_J1_343 ck_J1 (hp_k_isC C.pf e_2 ck_J1) (ct_J0_length Ev h n o _ e_5) rfl rfl (Nat.le_of_ble_eq_true rfl) ⟨Nat.le_of_ble_eq_true rfl, Nat.le_of_ble_eq_true rfl, (Nat.zero_le _), (Nat.zero_le _)⟩ dJ1_length_1 rb_xXi (rb_kXi fun hn_3 => (rb_w (kc := 0) (ks := 0) rfl rfl ?_))
  cases hf
  exact rb_iret C rfl rfl (Nat.zero_le _) (Nat.zero_le _) dJ1_length_4 ⟨rfl, rfl, rfl, rfl⟩
def f_J0_append_4 (Ev : rb_E) (h : AH) (n : Nat) (o : Nat) (x1 : Nat) (x2 : Int32) (x3 : Int32) : Option (Nat × AH × Nat × Nat) := ((hp_cls Ev h x1).bind fun v_1 => (if v_1 = 14 then ((f_J2_length Ev h x1).bind fun v_5 => ((hp_so Ev "jdk/internal/util/Preconditions" "IOOBE_FORMATTER").bind fun v_7 => (match v_7 with | none => ((f_J10_checkFromToIndex Ev h x2 x3 v_5 none).bind fun v_10 => ((hp_i Ev h o 13 3).bind fun v_12 => ((hp_k Ev h o 13).bind fun u_14 => ((f_J0_ensureCapacityInternal Ev h n o (v_12 + (x3 - x2))).bind fun (r_17, h_18, k_19, s_20) => (ad k_19 s_20 ((hp_isa Ev h_18 x1 [14] [13]).bind fun v_26 => (if v_26 = 0 then ((hp_k Ev h_18 o 13).bind fun u_29 => ((f_J0_appendChars_2 Ev h_18 (n + k_19) o x1 x2 x3).bind fun (r_32, h_33, k_34, s_35) => (ad k_34 s_35 (some (o, h_33, 0, 0))))) else ((hp_ca Ev h_18 x1 [14]).bind fun u_41 => ((hp_k Ev h_18 o 13).bind fun u_43 => ((f_J0_appendChars Ev h_18 (n + k_19) o x1 x2 x3).bind fun (r_46, h_47, k_48, s_49) => (ad k_48 s_49 (some (o, h_47, 0, 0))))))))))))) | some v_7_q => ((f_J10_checkFromToIndex Ev h x2 x3 v_5 (some v_7_q)).bind fun v_56 => ((hp_i Ev h o 13 3).bind fun v_58 => ((hp_k Ev h o 13).bind fun u_60 => ((f_J0_ensureCapacityInternal Ev h n o (v_58 + (x3 - x2))).bind fun (r_63, h_64, k_65, s_66) => (ad k_65 s_66 ((hp_isa Ev h_64 x1 [14] [13]).bind fun v_72 => (if v_72 = 0 then ((hp_k Ev h_64 o 13).bind fun u_75 => ((f_J0_appendChars_2 Ev h_64 (n + k_65) o x1 x2 x3).bind fun (r_78, h_79, k_80, s_81) => (ad k_80 s_81 (some (o, h_79, 0, 0))))) else ((hp_ca Ev h_64 x1 [14]).bind fun u_87 => ((hp_k Ev h_64 o 13).bind fun u_89 => ((f_J0_appendChars Ev h_64 (n + k_65) o x1 x2 x3).bind fun (r_92, h_93, k_94, s_95) => (ad k_94 s_95 (some (o, h_93, 0, 0)))))))))))))))) else (if v_1 = 13 then ((f_J1_length Ev h x1).bind fun v_103 => ((hp_so Ev "jdk/internal/util/Preconditions" "IOOBE_FORMATTER").bind fun v_105 => (match v_105 with | none => ((f_J10_checkFromToIndex Ev h x2 x3 v_103 none).bind fun v_108 => ((hp_i Ev h o 13 3).bind fun v_110 => ((hp_k Ev h o 13).bind fun u_112 => ((f_J0_ensureCapacityInternal Ev h n o (v_110 + (x3 - x2))).bind fun (r_115, h_116, k_117, s_118) => (ad k_117 s_118 ((hp_isa Ev h_116 x1 [14] [13]).bind fun v_124 => (if v_124 = 0 then ((hp_k Ev h_116 o 13).bind fun u_127 => ((f_J0_appendChars_2 Ev h_116 (n + k_117) o x1 x2 x3).bind fun (r_130, h_131, k_132, s_133) => (ad k_132 s_133 (some (o, h_131, 0, 0))))) else ((hp_ca Ev h_116 x1 [14]).bind fun u_139 => ((hp_k Ev h_116 o 13).bind fun u_141 => ((f_J0_appendChars Ev h_116 (n + k_117) o x1 x2 x3).bind fun (r_144, h_145, k_146, s_147) => (ad k_146 s_147 (some (o, h_145, 0, 0))))))))))))) | some v_105_q => ((f_J10_checkFromToIndex Ev h x2 x3 v_103 (some v_105_q)).bind fun v_154 => ((hp_i Ev h o 13 3).bind fun v_156 => ((hp_k Ev h o 13).bind fun u_158 => ((f_J0_ensureCapacityInternal Ev h n o (v_156 + (x3 - x2))).bind fun (r_161, h_162, k_163, s_164) => (ad k_163 s_164 ((hp_isa Ev h_162 x1 [14] [13]).bind fun v_170 => (if v_170 = 0 then ((hp_k Ev h_162 o 13).bind fun u_173 => ((f_J0_appendChars_2 Ev h_162 (n + k_163) o x1 x2 x3).bind fun (r_176, h_177, k_178, s_179) => (ad k_178 s_179 (some (o, h_177, 0, 0))))) else ((hp_ca Ev h_162 x1 [14]).bind fun u_185 => ((hp_k Ev h_162 o 13).bind fun u_187 => ((f_J0_appendChars Ev h_162 (n + k_163) o x1 x2 x3).bind fun (r_190, h_191, k_192, s_193) => (ad k_192 s_193 (some (o, h_191, 0, 0)))))))))))))))) else none)))
abbrev rm_J0_append_4 (k s : Nat) : Room := { frames := 7, cells := k, slots := s, locals := 164 }
set_option maxHeartbeats 4000000 in
theorem ct_J0_append_4 (Ev : rb_E) (h : AH) (n : Nat) (o : Nat) (x1 : Nat) (x2 : Int32) (x3 : Int32) (r : Nat) (h' : AH) (k s : Nat) (hf : f_J0_append_4 Ev h n o x1 x2 x3 = some (r, h', k, s)) : Ct Ev yJ0_append_4 (ws_ yJ0_append_4 cJ0_append_4 5 (some (.object "java/lang/AbstractStringBuilder"))) (rm_J0_append_4 k s) [.ref o, .ref x1, .int x2, .int x3] h n (pX (.inl (some (.ref r))) h' (n + k)) := by
  rw [f_J0_append_4] at hf
  refine Ct.of rfl (Nat.le_of_ble_eq_true rfl) fun X C hnm => ?_
  have C : Cx Ev X RJ0 cJ0_append_4 5 (some (.object "java/lang/AbstractStringBuilder")) [] := C
  show Wa Ev X (rm_J0_append_4 k s) 5 h n 0 0 (rb_MQ Ev X (rm_J0_append_4 k s) (pX (.inl (some (.ref r))) h' (n + k))) 0 [(0, .ref o), (1, .ref x1), (2, .int x2), (3, .int x3)] []
  have hb : Bd (n + k) k s n 0 0 k s := ⟨rfl, Nat.le_of_eq (Nat.zero_add _), Nat.le_of_eq (Nat.zero_add _)⟩
  refine rb_aload_n C dJ0_append_4_0 rfl 1 rfl ?_
  refine rb_ifnonnull (tgt := 7) C dJ0_append_4_1 (by decide) ?_
  refine rb_iload_n C dJ0_append_4_7 rfl 2 rfl ?_
  refine rb_iload_n C dJ0_append_4_8 rfl 3 rfl ?_
  refine rb_aload_n C dJ0_append_4_9 rfl 1 rfl ?_
  obtain ⟨v_1, e_2, hf⟩ := rb_bd hf
  by_cases c_3 : v_1 = 14
  · have hf := (if_pos c_3).symm.trans hf
    subst c_3
    obtain ⟨v_5, e_6, hf⟩ := rb_bd hf
    refine rb_callF (As := []) (rest := [.int x3, .int x2]) C mi_J2_length sf_J0_47_J2 ck_J2 (hp_cls_isC C.pf e_2 ck_J2) (ct_J2_length Ev h n x1 _ e_6) rfl rfl (Nat.le_of_ble_eq_true rfl) ⟨Nat.le_of_ble_eq_true rfl, Nat.le_of_ble_eq_true rfl, hb.c0, hb.s0⟩ dJ0_append_4_10 rb_xXi (rb_kXi fun hn_4 => (rb_w (kc := 0) (ks := 0) rfl rfl ?_))
    obtain ⟨v_7, e_8, hf⟩ := rb_bd hf
    refine rb_hso C q452 q453 e_8 dJ0_append_4_15 ?_
    cases v_7 with
    | none =>
      dsimp only at hf
      obtain ⟨v_10, e_11, hf⟩ := rb_bd hf
      refine rb_callS (As := [.int x2, .int x3, .int v_5, .null]) (rest := []) C mi_J10_checkFromToIndex ss_J0_161 (ct_J10_checkFromToIndex Ev h n x2 x3 v_5 none _ e_11) rfl rfl (Nat.le_of_ble_eq_true rfl) ⟨Nat.le_of_ble_eq_true rfl, Nat.le_of_ble_eq_true rfl, hb.c0, hb.s0⟩ dJ0_append_4_18 rb_xXi (rb_kXi fun hn_9 => (rb_w (kc := 0) (ks := 0) rfl rfl ?_))
      refine rb_pop C dJ0_append_4_21 rfl ?_
      refine rb_iload_n C dJ0_append_4_22 rfl 3 rfl ?_
      refine rb_iload_n C dJ0_append_4_23 rfl 2 rfl ?_
      refine rb_isub C dJ0_append_4_24 ?_
      refine rb_istore (lv' := [(4, .int (x3 - x2)), (0, .ref o), (1, .ref x1), (2, .int x2), (3, .int x3)]) C dJ0_append_4_25 (by decide) rfl ?_
      refine rb_aload_n C dJ0_append_4_27 rfl 1 rfl ?_
      refine rb_aload_n C dJ0_append_4_28 rfl 1 rfl ?_
      obtain ⟨v_12, e_13, hf⟩ := rb_bd hf
      refine rb_hI C fl_J0_79_J1 e_13 dJ0_append_4_29 ?_
      refine rb_iload C dJ0_append_4_32 0 rfl ?_
      refine rb_iadd C dJ0_append_4_34 ?_
      obtain ⟨u_14, e_15, hf⟩ := rb_bd hf
      obtain ⟨⟨r_17, h_18, k_19, s_20⟩, e_21, hf⟩ := rb_bd hf
      obtain ⟨a_24, b_25, hf, ea_22, eb_23⟩ := ad_at hf
      refine rb_callVP (As := [.int (v_12 + (x3 - x2))]) (rest := []) C mi_J0_ensureCapacityInternal sp_J0_100 (hp_k_isC C.pf e_15 ck_J1) (ct_J0_ensureCapacityInternal Ev h n o (v_12 + (x3 - x2)) r_17 _ _ _ e_21) rfl rfl (Nat.le_of_ble_eq_true rfl) ⟨Nat.le_of_ble_eq_true rfl, Nat.le_of_ble_eq_true rfl, Bd.c1 hb ea_22, Bd.s1 hb eb_23⟩ dJ0_append_4_35 rb_xX (rb_kX (rb_w (kc := (0 + k_19)) (ks := (0 + s_20)) rfl rfl ?_))
      have hb := Bd.ade hb ea_22 eb_23
      refine rb_aload_n C dJ0_append_4_38 rfl 2 rfl ?_
      obtain ⟨v_26, e_27, hf⟩ := rb_bd hf
      refine rb_hin C q342 okp_java_lang_String okn_java_lang_String e_27 dJ0_append_4_39 ?_
      refine rb_if_eq (tgt := 58) C dJ0_append_4_42 (by decide) (fun c_28 => ?_) (fun c_28 => ?_)
      · have hf := (if_pos c_28).symm.trans hf
        refine rb_aload_n C dJ0_append_4_58 rfl 1 rfl ?_
        refine rb_aload_n C dJ0_append_4_59 rfl 2 rfl ?_
        refine rb_iload_n C dJ0_append_4_60 rfl 3 rfl ?_
        refine rb_iload_n C dJ0_append_4_61 rfl 4 rfl ?_
        obtain ⟨u_29, e_30, hf⟩ := rb_bd hf
        obtain ⟨⟨r_32, h_33, k_34, s_35⟩, e_36, hf⟩ := rb_bd hf
        obtain ⟨a_39, b_40, hf, ea_37, eb_38⟩ := ad_at hf
        refine rb_callVP (As := [.ref x1, .int x2, .int x3]) (rest := []) C mi_J0_appendChars_2 sp_J0_236 (hp_k_isC C.pf e_30 ck_J1) (ct_J0_appendChars_2 Ev h_18 (n + k_19) o x1 x2 x3 r_32 _ _ _ e_36) rfl rfl (Nat.le_of_ble_eq_true rfl) ⟨Nat.le_of_ble_eq_true rfl, Nat.le_of_ble_eq_true rfl, Bd.c1 hb ea_37, Bd.s1 hb eb_38⟩ dJ0_append_4_62 rb_xX (rb_kX (rb_w (kc := ((0 + k_19) + k_34)) (ks := ((0 + s_20) + s_35)) rfl rfl ?_))
        have hb := Bd.ade hb ea_37 eb_38
        refine rb_aload_n C dJ0_append_4_65 rfl 1 rfl ?_
        cases hf
        exact rb_aret C rfl (Or.inl ⟨_, rfl⟩) (Or.inr ⟨_, rfl⟩) hb.e.2.1 hb.e.2.2 dJ0_append_4_66 ⟨rfl, rfl, hb.e.1⟩
      · have hf := (if_neg c_28).symm.trans hf
        refine rb_aload_n C dJ0_append_4_45 rfl 1 rfl ?_
        refine rb_aload_n C dJ0_append_4_46 rfl 2 rfl ?_
        obtain ⟨u_41, e_42, hf⟩ := rb_bd hf
        refine rb_hca C q342 okp_java_lang_String e_42 dJ0_append_4_47 ?_
        refine rb_iload_n C dJ0_append_4_50 rfl 3 rfl ?_
        refine rb_iload_n C dJ0_append_4_51 rfl 4 rfl ?_
        obtain ⟨u_43, e_44, hf⟩ := rb_bd hf
        obtain ⟨⟨r_46, h_47, k_48, s_49⟩, e_50, hf⟩ := rb_bd hf
        obtain ⟨a_53, b_54, hf, ea_51, eb_52⟩ := ad_at hf
        refine rb_callVP (As := [.ref x1, .int x2, .int x3]) (rest := []) C mi_J0_appendChars sp_J0_232 (hp_k_isC C.pf e_44 ck_J1) (ct_J0_appendChars Ev h_18 (n + k_19) o x1 x2 x3 r_46 _ _ _ e_50) rfl rfl (Nat.le_of_ble_eq_true rfl) ⟨Nat.le_of_ble_eq_true rfl, Nat.le_of_ble_eq_true rfl, Bd.c1 hb ea_51, Bd.s1 hb eb_52⟩ dJ0_append_4_52 rb_xX (rb_kX (rb_w (kc := ((0 + k_19) + k_48)) (ks := ((0 + s_20) + s_49)) rfl rfl ?_))
        have hb := Bd.ade hb ea_51 eb_52
        refine rb_goto (tgt := 65) C dJ0_append_4_55 (by decide) ?_
        refine rb_aload_n C dJ0_append_4_65 rfl 1 rfl ?_
        cases hf
        exact rb_aret C rfl (Or.inl ⟨_, rfl⟩) (Or.inr ⟨_, rfl⟩) hb.e.2.1 hb.e.2.2 dJ0_append_4_66 ⟨rfl, rfl, hb.e.1⟩
    | some v_7_q =>
      dsimp only at hf
      obtain ⟨v_56, e_57, hf⟩ := rb_bd hf
      refine rb_callS (As := [.int x2, .int x3, .int v_5, .ref v_7_q]) (rest := []) C mi_J10_checkFromToIndex ss_J0_161 (ct_J10_checkFromToIndex Ev h n x2 x3 v_5 (some v_7_q) _ e_57) rfl rfl (Nat.le_of_ble_eq_true rfl) ⟨Nat.le_of_ble_eq_true rfl, Nat.le_of_ble_eq_true rfl, hb.c0, hb.s0⟩ dJ0_append_4_18 rb_xXi (rb_kXi fun hn_55 => (rb_w (kc := 0) (ks := 0) rfl rfl ?_))
      refine rb_pop C dJ0_append_4_21 rfl ?_
      refine rb_iload_n C dJ0_append_4_22 rfl 3 rfl ?_
      refine rb_iload_n C dJ0_append_4_23 rfl 2 rfl ?_
      refine rb_isub C dJ0_append_4_24 ?_
      refine rb_istore (lv' := [(4, .int (x3 - x2)), (0, .ref o), (1, .ref x1), (2, .int x2), (3, .int x3)]) C dJ0_append_4_25 (by decide) rfl ?_
      refine rb_aload_n C dJ0_append_4_27 rfl 1 rfl ?_
      refine rb_aload_n C dJ0_append_4_28 rfl 1 rfl ?_
      obtain ⟨v_58, e_59, hf⟩ := rb_bd hf
      refine rb_hI C fl_J0_79_J1 e_59 dJ0_append_4_29 ?_
      refine rb_iload C dJ0_append_4_32 0 rfl ?_
      refine rb_iadd C dJ0_append_4_34 ?_
      obtain ⟨u_60, e_61, hf⟩ := rb_bd hf
      obtain ⟨⟨r_63, h_64, k_65, s_66⟩, e_67, hf⟩ := rb_bd hf
      obtain ⟨a_70, b_71, hf, ea_68, eb_69⟩ := ad_at hf
      refine rb_callVP (As := [.int (v_58 + (x3 - x2))]) (rest := []) C mi_J0_ensureCapacityInternal sp_J0_100 (hp_k_isC C.pf e_61 ck_J1) (ct_J0_ensureCapacityInternal Ev h n o (v_58 + (x3 - x2)) r_63 _ _ _ e_67) rfl rfl (Nat.le_of_ble_eq_true rfl) ⟨Nat.le_of_ble_eq_true rfl, Nat.le_of_ble_eq_true rfl, Bd.c1 hb ea_68, Bd.s1 hb eb_69⟩ dJ0_append_4_35 rb_xX (rb_kX (rb_w (kc := (0 + k_65)) (ks := (0 + s_66)) rfl rfl ?_))
      have hb := Bd.ade hb ea_68 eb_69
      refine rb_aload_n C dJ0_append_4_38 rfl 2 rfl ?_
      obtain ⟨v_72, e_73, hf⟩ := rb_bd hf
      refine rb_hin C q342 okp_java_lang_String okn_java_lang_String e_73 dJ0_append_4_39 ?_
      refine rb_if_eq (tgt := 58) C dJ0_append_4_42 (by decide) (fun c_74 => ?_) (fun c_74 => ?_)
      · have hf := (if_pos c_74).symm.trans hf
        refine rb_aload_n C dJ0_append_4_58 rfl 1 rfl ?_
        refine rb_aload_n C dJ0_append_4_59 rfl 2 rfl ?_
        refine rb_iload_n C dJ0_append_4_60 rfl 3 rfl ?_
        refine rb_iload_n C dJ0_append_4_61 rfl 4 rfl ?_
        obtain ⟨u_75, e_76, hf⟩ := rb_bd hf
        obtain ⟨⟨r_78, h_79, k_80, s_81⟩, e_82, hf⟩ := rb_bd hf
        obtain ⟨a_85, b_86, hf, ea_83, eb_84⟩ := ad_at hf
        refine rb_callVP (As := [.ref x1, .int x2, .int x3]) (rest := []) C mi_J0_appendChars_2 sp_J0_236 (hp_k_isC C.pf e_76 ck_J1) (ct_J0_appendChars_2 Ev h_64 (n + k_65) o x1 x2 x3 r_78 _ _ _ e_82) rfl rfl (Nat.le_of_ble_eq_true rfl) ⟨Nat.le_of_ble_eq_true rfl, Nat.le_of_ble_eq_true rfl, Bd.c1 hb ea_83, Bd.s1 hb eb_84⟩ dJ0_append_4_62 rb_xX (rb_kX (rb_w (kc := ((0 + k_65) + k_80)) (ks := ((0 + s_66) + s_81)) rfl rfl ?_))
        have hb := Bd.ade hb ea_83 eb_84
        refine rb_aload_n C dJ0_append_4_65 rfl 1 rfl ?_
        cases hf
        exact rb_aret C rfl (Or.inl ⟨_, rfl⟩) (Or.inr ⟨_, rfl⟩) hb.e.2.1 hb.e.2.2 dJ0_append_4_66 ⟨rfl, rfl, hb.e.1⟩
      · have hf := (if_neg c_74).symm.trans hf
        refine rb_aload_n C dJ0_append_4_45 rfl 1 rfl ?_
        refine rb_aload_n C dJ0_append_4_46 rfl 2 rfl ?_
        obtain ⟨u_87, e_88, hf⟩ := rb_bd hf
        refine rb_hca C q342 okp_java_lang_String e_88 dJ0_append_4_47 ?_
        refine rb_iload_n C dJ0_append_4_50 rfl 3 rfl ?_
        refine rb_iload_n C dJ0_append_4_51 rfl 4 rfl ?_
        obtain ⟨u_89, e_90, hf⟩ := rb_bd hf
        obtain ⟨⟨r_92, h_93, k_94, s_95⟩, e_96, hf⟩ := rb_bd hf
        obtain ⟨a_99, b_100, hf, ea_97, eb_98⟩ := ad_at hf
        refine rb_callVP (As := [.ref x1, .int x2, .int x3]) (rest := []) C mi_J0_appendChars sp_J0_232 (hp_k_isC C.pf e_90 ck_J1) (ct_J0_appendChars Ev h_64 (n + k_65) o x1 x2 x3 r_92 _ _ _ e_96) rfl rfl (Nat.le_of_ble_eq_true rfl) ⟨Nat.le_of_ble_eq_true rfl, Nat.le_of_ble_eq_true rfl, Bd.c1 hb ea_97, Bd.s1 hb eb_98⟩ dJ0_append_4_52 rb_xX (rb_kX (rb_w (kc := ((0 + k_65) + k_94)) (ks := ((0 + s_66) + s_95)) rfl rfl ?_))
        have hb := Bd.ade hb ea_97 eb_98
        refine rb_goto (tgt := 65) C dJ0_append_4_55 (by decide) ?_
        refine rb_aload_n C dJ0_append_4_65 rfl 1 rfl ?_
        cases hf
        exact rb_aret C rfl (Or.inl ⟨_, rfl⟩) (Or.inr ⟨_, rfl⟩) hb.e.2.1 hb.e.2.2 dJ0_append_4_66 ⟨rfl, rfl, hb.e.1⟩
  have hf := (if_neg c_3).symm.trans hf
  by_cases c_101 : v_1 = 13
  · have hf := (if_pos c_101).symm.trans hf
    subst c_101
    obtain ⟨v_103, e_104, hf⟩ := rb_bd hf
    refine rb_callF (As := []) (rest := [.int x3, .int x2]) C mi_J1_length sf_J0_47_J1 ck_J1 (hp_cls_isC C.pf e_2 ck_J1) (ct_J1_length Ev h n x1 _ e_104) rfl rfl (Nat.le_of_ble_eq_true rfl) ⟨Nat.le_of_ble_eq_true rfl, Nat.le_of_ble_eq_true rfl, hb.c0, hb.s0⟩ dJ0_append_4_10 rb_xXi (rb_kXi fun hn_102 => (rb_w (kc := 0) (ks := 0) rfl rfl ?_))
    obtain ⟨v_105, e_106, hf⟩ := rb_bd hf
    refine rb_hso C q452 q453 e_106 dJ0_append_4_15 ?_
    cases v_105 with
    | none =>
      dsimp only at hf
      obtain ⟨v_108, e_109, hf⟩ := rb_bd hf
      refine rb_callS (As := [.int x2, .int x3, .int v_103, .null]) (rest := []) C mi_J10_checkFromToIndex ss_J0_161 (ct_J10_checkFromToIndex Ev h n x2 x3 v_103 none _ e_109) rfl rfl (Nat.le_of_ble_eq_true rfl) ⟨Nat.le_of_ble_eq_true rfl, Nat.le_of_ble_eq_true rfl, hb.c0, hb.s0⟩ dJ0_append_4_18 rb_xXi (rb_kXi fun hn_107 => (rb_w (kc := 0) (ks := 0) rfl rfl ?_))
      refine rb_pop C dJ0_append_4_21 rfl ?_
      refine rb_iload_n C dJ0_append_4_22 rfl 3 rfl ?_
      refine rb_iload_n C dJ0_append_4_23 rfl 2 rfl ?_
      refine rb_isub C dJ0_append_4_24 ?_
      refine rb_istore (lv' := [(4, .int (x3 - x2)), (0, .ref o), (1, .ref x1), (2, .int x2), (3, .int x3)]) C dJ0_append_4_25 (by decide) rfl ?_
      refine rb_aload_n C dJ0_append_4_27 rfl 1 rfl ?_
      refine rb_aload_n C dJ0_append_4_28 rfl 1 rfl ?_
      obtain ⟨v_110, e_111, hf⟩ := rb_bd hf
      refine rb_hI C fl_J0_79_J1 e_111 dJ0_append_4_29 ?_
      refine rb_iload C dJ0_append_4_32 0 rfl ?_
      refine rb_iadd C dJ0_append_4_34 ?_
      obtain ⟨u_112, e_113, hf⟩ := rb_bd hf
      obtain ⟨⟨r_115, h_116, k_117, s_118⟩, e_119, hf⟩ := rb_bd hf
      obtain ⟨a_122, b_123, hf, ea_120, eb_121⟩ := ad_at hf
      refine rb_callVP (As := [.int (v_110 + (x3 - x2))]) (rest := []) C mi_J0_ensureCapacityInternal sp_J0_100 (hp_k_isC C.pf e_113 ck_J1) (ct_J0_ensureCapacityInternal Ev h n o (v_110 + (x3 - x2)) r_115 _ _ _ e_119) rfl rfl (Nat.le_of_ble_eq_true rfl) ⟨Nat.le_of_ble_eq_true rfl, Nat.le_of_ble_eq_true rfl, Bd.c1 hb ea_120, Bd.s1 hb eb_121⟩ dJ0_append_4_35 rb_xX (rb_kX (rb_w (kc := (0 + k_117)) (ks := (0 + s_118)) rfl rfl ?_))
      have hb := Bd.ade hb ea_120 eb_121
      refine rb_aload_n C dJ0_append_4_38 rfl 2 rfl ?_
      obtain ⟨v_124, e_125, hf⟩ := rb_bd hf
      refine rb_hin C q342 okp_java_lang_String okn_java_lang_String e_125 dJ0_append_4_39 ?_
      refine rb_if_eq (tgt := 58) C dJ0_append_4_42 (by decide) (fun c_126 => ?_) (fun c_126 => ?_)
      · have hf := (if_pos c_126).symm.trans hf
        refine rb_aload_n C dJ0_append_4_58 rfl 1 rfl ?_
        refine rb_aload_n C dJ0_append_4_59 rfl 2 rfl ?_
        refine rb_iload_n C dJ0_append_4_60 rfl 3 rfl ?_
        refine rb_iload_n C dJ0_append_4_61 rfl 4 rfl ?_
        obtain ⟨u_127, e_128, hf⟩ := rb_bd hf
        obtain ⟨⟨r_130, h_131, k_132, s_133⟩, e_134, hf⟩ := rb_bd hf
        obtain ⟨a_137, b_138, hf, ea_135, eb_136⟩ := ad_at hf
        refine rb_callVP (As := [.ref x1, .int x2, .int x3]) (rest := []) C mi_J0_appendChars_2 sp_J0_236 (hp_k_isC C.pf e_128 ck_J1) (ct_J0_appendChars_2 Ev h_116 (n + k_117) o x1 x2 x3 r_130 _ _ _ e_134) rfl rfl (Nat.le_of_ble_eq_true rfl) ⟨Nat.le_of_ble_eq_true rfl, Nat.le_of_ble_eq_true rfl, Bd.c1 hb ea_135, Bd.s1 hb eb_136⟩ dJ0_append_4_62 rb_xX (rb_kX (rb_w (kc := ((0 + k_117) + k_132)) (ks := ((0 + s_118) + s_133)) rfl rfl ?_))
        have hb := Bd.ade hb ea_135 eb_136
        refine rb_aload_n C dJ0_append_4_65 rfl 1 rfl ?_
        cases hf
        exact rb_aret C rfl (Or.inl ⟨_, rfl⟩) (Or.inr ⟨_, rfl⟩) hb.e.2.1 hb.e.2.2 dJ0_append_4_66 ⟨rfl, rfl, hb.e.1⟩
      · have hf := (if_neg c_126).symm.trans hf
        refine rb_aload_n C dJ0_append_4_45 rfl 1 rfl ?_
        refine rb_aload_n C dJ0_append_4_46 rfl 2 rfl ?_
        obtain ⟨u_139, e_140, hf⟩ := rb_bd hf
        refine rb_hca C q342 okp_java_lang_String e_140 dJ0_append_4_47 ?_
        refine rb_iload_n C dJ0_append_4_50 rfl 3 rfl ?_
        refine rb_iload_n C dJ0_append_4_51 rfl 4 rfl ?_
        obtain ⟨u_141, e_142, hf⟩ := rb_bd hf
        obtain ⟨⟨r_144, h_145, k_146, s_147⟩, e_148, hf⟩ := rb_bd hf
        obtain ⟨a_151, b_152, hf, ea_149, eb_150⟩ := ad_at hf
        refine rb_callVP (As := [.ref x1, .int x2, .int x3]) (rest := []) C mi_J0_appendChars sp_J0_232 (hp_k_isC C.pf e_142 ck_J1) (ct_J0_appendChars Ev h_116 (n + k_117) o x1 x2 x3 r_144 _ _ _ e_148) rfl rfl (Nat.le_of_ble_eq_true rfl) ⟨Nat.le_of_ble_eq_true rfl, Nat.le_of_ble_eq_true rfl, Bd.c1 hb ea_149, Bd.s1 hb eb_150⟩ dJ0_append_4_52 rb_xX (rb_kX (rb_w (kc := ((0 + k_117) + k_146)) (ks := ((0 + s_118) + s_147)) rfl rfl ?_))
        have hb := Bd.ade hb ea_149 eb_150
        refine rb_goto (tgt := 65) C dJ0_append_4_55 (by decide) ?_
        refine rb_aload_n C dJ0_append_4_65 rfl 1 rfl ?_
        cases hf
        exact rb_aret C rfl (Or.inl ⟨_, rfl⟩) (Or.inr ⟨_, rfl⟩) hb.e.2.1 hb.e.2.2 dJ0_append_4_66 ⟨rfl, rfl, hb.e.1⟩
    | some v_105_q =>
      dsimp only at hf
      obtain ⟨v_154, e_155, hf⟩ := rb_bd hf
      refine rb_callS (As := [.int x2, .int x3, .int v_103, .ref v_105_q]) (rest := []) C mi_J10_checkFromToIndex ss_J0_161 (ct_J10_checkFromToIndex Ev h n x2 x3 v_103 (some v_105_q) _ e_155) rfl rfl (Nat.le_of_ble_eq_true rfl) ⟨Nat.le_of_ble_eq_true rfl, Nat.le_of_ble_eq_true rfl, hb.c0, hb.s0⟩ dJ0_append_4_18 rb_xXi (rb_kXi fun hn_153 => (rb_w (kc := 0) (ks := 0) rfl rfl ?_))
      refine rb_pop C dJ0_append_4_21 rfl ?_
      refine rb_iload_n C dJ0_append_4_22 rfl 3 rfl ?_
      refine rb_iload_n C dJ0_append_4_23 rfl 2 rfl ?_
      refine rb_isub C dJ0_append_4_24 ?_
      refine rb_istore (lv' := [(4, .int (x3 - x2)), (0, .ref o), (1, .ref x1), (2, .int x2), (3, .int x3)]) C dJ0_append_4_25 (by decide) rfl ?_
      refine rb_aload_n C dJ0_append_4_27 rfl 1 rfl ?_
      refine rb_aload_n C dJ0_append_4_28 rfl 1 rfl ?_
      obtain ⟨v_156, e_157, hf⟩ := rb_bd hf
      refine rb_hI C fl_J0_79_J1 e_157 dJ0_append_4_29 ?_
      refine rb_iload C dJ0_append_4_32 0 rfl ?_
      refine rb_iadd C dJ0_append_4_34 ?_
      obtain ⟨u_158, e_159, hf⟩ := rb_bd hf
      obtain ⟨⟨r_161, h_162, k_163, s_164⟩, e_165, hf⟩ := rb_bd hf
      obtain ⟨a_168, b_169, hf, ea_166, eb_167⟩ := ad_at hf
      refine rb_callVP (As := [.int (v_156 + (x3 - x2))]) (rest := []) C mi_J0_ensureCapacityInternal sp_J0_100 (hp_k_isC C.pf e_159 ck_J1) (ct_J0_ensureCapacityInternal Ev h n o (v_156 + (x3 - x2)) r_161 _ _ _ e_165) rfl rfl (Nat.le_of_ble_eq_true rfl) ⟨Nat.le_of_ble_eq_true rfl, Nat.le_of_ble_eq_true rfl, Bd.c1 hb ea_166, Bd.s1 hb eb_167⟩ dJ0_append_4_35 rb_xX (rb_kX (rb_w (kc := (0 + k_163)) (ks := (0 + s_164)) rfl rfl ?_))
      have hb := Bd.ade hb ea_166 eb_167
      refine rb_aload_n C dJ0_append_4_38 rfl 2 rfl ?_
      obtain ⟨v_170, e_171, hf⟩ := rb_bd hf
      refine rb_hin C q342 okp_java_lang_String okn_java_lang_String e_171 dJ0_append_4_39 ?_
      refine rb_if_eq (tgt := 58) C dJ0_append_4_42 (by decide) (fun c_172 => ?_) (fun c_172 => ?_)
      · have hf := (if_pos c_172).symm.trans hf
        refine rb_aload_n C dJ0_append_4_58 rfl 1 rfl ?_
        refine rb_aload_n C dJ0_append_4_59 rfl 2 rfl ?_
        refine rb_iload_n C dJ0_append_4_60 rfl 3 rfl ?_
        refine rb_iload_n C dJ0_append_4_61 rfl 4 rfl ?_
        obtain ⟨u_173, e_174, hf⟩ := rb_bd hf
        obtain ⟨⟨r_176, h_177, k_178, s_179⟩, e_180, hf⟩ := rb_bd hf
        obtain ⟨a_183, b_184, hf, ea_181, eb_182⟩ := ad_at hf
        refine rb_callVP (As := [.ref x1, .int x2, .int x3]) (rest := []) C mi_J0_appendChars_2 sp_J0_236 (hp_k_isC C.pf e_174 ck_J1) (ct_J0_appendChars_2 Ev h_162 (n + k_163) o x1 x2 x3 r_176 _ _ _ e_180) rfl rfl (Nat.le_of_ble_eq_true rfl) ⟨Nat.le_of_ble_eq_true rfl, Nat.le_of_ble_eq_true rfl, Bd.c1 hb ea_181, Bd.s1 hb eb_182⟩ dJ0_append_4_62 rb_xX (rb_kX (rb_w (kc := ((0 + k_163) + k_178)) (ks := ((0 + s_164) + s_179)) rfl rfl ?_))
        have hb := Bd.ade hb ea_181 eb_182
        refine rb_aload_n C dJ0_append_4_65 rfl 1 rfl ?_
        cases hf
        exact rb_aret C rfl (Or.inl ⟨_, rfl⟩) (Or.inr ⟨_, rfl⟩) hb.e.2.1 hb.e.2.2 dJ0_append_4_66 ⟨rfl, rfl, hb.e.1⟩
      · have hf := (if_neg c_172).symm.trans hf
        refine rb_aload_n C dJ0_append_4_45 rfl 1 rfl ?_
        refine rb_aload_n C dJ0_append_4_46 rfl 2 rfl ?_
        obtain ⟨u_185, e_186, hf⟩ := rb_bd hf
        refine rb_hca C q342 okp_java_lang_String e_186 dJ0_append_4_47 ?_
        refine rb_iload_n C dJ0_append_4_50 rfl 3 rfl ?_
        refine rb_iload_n C dJ0_append_4_51 rfl 4 rfl ?_
        obtain ⟨u_187, e_188, hf⟩ := rb_bd hf
        obtain ⟨⟨r_190, h_191, k_192, s_193⟩, e_194, hf⟩ := rb_bd hf
        obtain ⟨a_197, b_198, hf, ea_195, eb_196⟩ := ad_at hf
        refine rb_callVP (As := [.ref x1, .int x2, .int x3]) (rest := []) C mi_J0_appendChars sp_J0_232 (hp_k_isC C.pf e_188 ck_J1) (ct_J0_appendChars Ev h_162 (n + k_163) o x1 x2 x3 r_190 _ _ _ e_194) rfl rfl (Nat.le_of_ble_eq_true rfl) ⟨Nat.le_of_ble_eq_true rfl, Nat.le_of_ble_eq_true rfl, Bd.c1 hb ea_195, Bd.s1 hb eb_196⟩ dJ0_append_4_52 rb_xX (rb_kX (rb_w (kc := ((0 + k_163) + k_192)) (ks := ((0 + s_164) + s_193)) rfl rfl ?_))
        have hb := Bd.ade hb ea_195 eb_196
        refine rb_goto (tgt := 65) C dJ0_append_4_55 (by decide) ?_
        refine rb_aload_n C dJ0_append_4_65 rfl 1 rfl ?_
        cases hf
        exact rb_aret C rfl (Or.inl ⟨_, rfl⟩) (Or.inr ⟨_, rfl⟩) hb.e.2.1 hb.e.2.2 dJ0_append_4_66 ⟨rfl, rfl, hb.e.1⟩
  have hf := (if_neg c_101).symm.trans hf
  cases hf
def f_J1_append_5 (Ev : rb_E) (h : AH) (n : Nat) (o : Nat) (x1 : Nat) (x2 : Int32) (x3 : Int32) : Option (Nat × AH × Nat × Nat) := ((hp_k Ev h o 13).bind fun u_1 => ((f_J0_append_4 Ev h n o x1 x2 x3).bind fun (r_4, h_5, k_6, s_7) => (ad k_6 s_7 (some (o, h_5, 0, 0)))))
abbrev rm_J1_append_5 (k s : Nat) : Room := { frames := 8, cells := k, slots := s, locals := 188 }
set_option maxHeartbeats 4000000 in
theorem ct_J1_append_5 (Ev : rb_E) (h : AH) (n : Nat) (o : Nat) (x1 : Nat) (x2 : Int32) (x3 : Int32) (r : Nat) (h' : AH) (k s : Nat) (hf : f_J1_append_5 Ev h n o x1 x2 x3 = some (r, h', k, s)) : Ct Ev yJ1_append_5 (ws_ yJ1_append_5 cJ1_append_5 4 (some (.object "java/lang/StringBuilder"))) (rm_J1_append_5 k s) [.ref o, .ref x1, .int x2, .int x3] h n (pX (.inl (some (.ref r))) h' (n + k)) := by
  rw [f_J1_append_5] at hf
  refine Ct.of rfl (Nat.le_of_ble_eq_true rfl) fun X C hnm => ?_
  have C : Cx Ev X RJ1 cJ1_append_5 4 (some (.object "java/lang/StringBuilder")) [] := C
  show Wa Ev X (rm_J1_append_5 k s) 4 h n 0 0 (rb_MQ Ev X (rm_J1_append_5 k s) (pX (.inl (some (.ref r))) h' (n + k))) 0 [(0, .ref o), (1, .ref x1), (2, .int x2), (3, .int x3)] []
  have hb : Bd (n + k) k s n 0 0 k s := ⟨rfl, Nat.le_of_eq (Nat.zero_add _), Nat.le_of_eq (Nat.zero_add _)⟩
  refine rb_aload_n C dJ1_append_5_0 rfl 0 rfl ?_
  refine rb_aload_n C dJ1_append_5_1 rfl 1 rfl ?_
  refine rb_iload_n C dJ1_append_5_2 rfl 2 rfl ?_
  refine rb_iload_n C dJ1_append_5_3 rfl 3 rfl ?_
  obtain ⟨u_1, e_2, hf⟩ := rb_bd hf
  obtain ⟨⟨r_4, h_5, k_6, s_7⟩, e_8, hf⟩ := rb_bd hf
  obtain ⟨a_11, b_12, hf, ea_9, eb_10⟩ := ad_at hf
  refine rb_callSU (As := [.ref x1, .int x2, .int x3]) (rest := []) C mi_J0_append_4 sx_J1_38 ck_J1 (hp_k_isC C.pf e_2 ck_J1) (ct_J0_append_4 Ev h n o x1 x2 x3 r_4 _ _ _ e_8) rfl rfl (Nat.le_of_ble_eq_true rfl) ⟨Nat.le_of_ble_eq_true rfl, Nat.le_of_ble_eq_true rfl, Bd.c1 hb ea_9, Bd.s1 hb eb_10⟩ dJ1_append_5_4 rb_xX (rb_kX (rb_w (kc := (0 + k_6)) (ks := (0 + s_7)) rfl rfl ?_))
  have hb := Bd.ade hb ea_9 eb_10
  refine rb_pop C dJ1_append_5_7 rfl ?_
  refine rb_aload_n C dJ1_append_5_8 rfl 0 rfl ?_
  cases hf
  exact rb_aret C rfl (Or.inl ⟨_, rfl⟩) (Or.inr ⟨_, rfl⟩) hb.e.2.1 hb.e.2.2 dJ1_append_5_9 ⟨rfl, rfl, hb.e.1⟩
def f_J1_append_4 (Ev : rb_E) (h : AH) (n : Nat) (o : Nat) (x1 : Nat) (x2 : Int32) (x3 : Int32) : Option (Nat × AH × Nat × Nat) := ((hp_k Ev h o 13).bind fun u_1 => ((f_J1_append_5 Ev h n o x1 x2 x3).bind fun (r_4, h_5, k_6, s_7) => (ad k_6 s_7 (some (r_4, h_5, 0, 0)))))
abbrev rm_J1_append_4 (k s : Nat) : Room := { frames := 9, cells := k, slots := s, locals := 211 }
set_option maxHeartbeats 4000000 in
theorem ct_J1_append_4 (Ev : rb_E) (h : AH) (n : Nat) (o : Nat) (x1 : Nat) (x2 : Int32) (x3 : Int32) (r : Nat) (h' : AH) (k s : Nat) (hf : f_J1_append_4 Ev h n o x1 x2 x3 = some (r, h', k, s)) : Ct Ev yJ1_append_4 (ws_ yJ1_append_4 cJ1_append_4 4 (some (.object "java/lang/AbstractStringBuilder"))) (rm_J1_append_4 k s) [.ref o, .ref x1, .int x2, .int x3] h n (pX (.inl (some (.ref r))) h' (n + k)) := by
  rw [f_J1_append_4] at hf
  refine Ct.of rfl (Nat.le_of_ble_eq_true rfl) fun X C hnm => ?_
  have C : Cx Ev X RJ1 cJ1_append_4 4 (some (.object "java/lang/AbstractStringBuilder")) [] := C
  show Wa Ev X (rm_J1_append_4 k s) 4 h n 0 0 (rb_MQ Ev X (rm_J1_append_4 k s) (pX (.inl (some (.ref r))) h' (n + k))) 0 [(0, .ref o), (1, .ref x1), (2, .int x2), (3, .int x3)] []
  have hb : Bd (n + k) k s n 0 0 k s := ⟨rfl, Nat.le_of_eq (Nat.zero_add _), Nat.le_of_eq (Nat.zero_add _)⟩
  refine rb_aload_n C dJ1_append_4_0 rfl 0 rfl ?_
  refine rb_aload_n C dJ1_append_4_1 rfl 1 rfl ?_
  refine rb_iload_n C dJ1_append_4_2 rfl 2 rfl ?_
  refine rb_iload_n C dJ1_append_4_3 rfl 3 rfl ?_
  obtain ⟨u_1, e_2, hf⟩ := rb_bd hf
  obtain ⟨⟨r_4, h_5, k_6, s_7⟩, e_8, hf⟩ := rb_bd hf
  obtain ⟨a_11, b_12, hf, ea_9, eb_10⟩ := ad_at hf
  refine rb_callV (As := [.ref x1, .int x2, .int x3]) (rest := []) C mi_J1_append_5 sv_J1_296 (hp_k_isC C.pf e_2 ck_J1) (ct_J1_append_5 Ev h n o x1 x2 x3 r_4 _ _ _ e_8) rfl rfl (Nat.le_of_ble_eq_true rfl) ⟨Nat.le_of_ble_eq_true rfl, Nat.le_of_ble_eq_true rfl, Bd.c1 hb ea_9, Bd.s1 hb eb_10⟩ dJ1_append_4_4 rb_xX (rb_kX (rb_w (kc := (0 + k_6)) (ks := (0 + s_7)) rfl rfl ?_))
  have hb := Bd.ade hb ea_9 eb_10
  cases hf
  exact rb_aret C rfl (Or.inl ⟨_, rfl⟩) (Or.inr ⟨_, rfl⟩) hb.e.2.1 hb.e.2.2 dJ1_append_4_7 ⟨rfl, rfl, hb.e.1⟩
def f_J0_getCoder (Ev : rb_E) (h : AH) (o : Nat) : Option Int32 := ((hp_i Ev h o 13 1).bind fun v_1 => (if narrow .byte (.int v_1) = .int v_1 then (some v_1) else none))
abbrev rm_J0_getCoder : Room := { frames := 0, cells := 0, slots := 0, locals := 0 }
set_option maxHeartbeats 4000000 in
theorem ct_J0_getCoder (Ev : rb_E) (h : AH) (n : Nat) (o : Nat) (r : Int32) (hf : f_J0_getCoder Ev h o = some r) : Ct Ev yJ0_getCoder (ws_ yJ0_getCoder cJ0_getCoder 1 (some .byte)) (rm_J0_getCoder) [.ref o] h n (pXi .byte r h n) := by
  rw [f_J0_getCoder] at hf
  refine Ct.of rfl (Nat.le_of_ble_eq_true rfl) fun X C hnm => ?_
  have C : Cx Ev X RJ0 cJ0_getCoder 1 (some .byte) [] := C
  show Wa Ev X (rm_J0_getCoder) 1 h n 0 0 (rb_MQ Ev X (rm_J0_getCoder) (pXi .byte r h n)) 0 [(0, .ref o)] []
  refine rb_gets (v := .int 1) C q140 q141 (C.pf.2.2.1.1) dJ0_getCoder_0 ?_
  refine rb_if_eq (tgt := 13) C dJ0_getCoder_3 (by decide) (fun c => absurd c (by decide)) (fun _ => ?_)
  refine rb_aload_n C dJ0_getCoder_6 rfl 0 rfl ?_
  obtain ⟨v_1, e_2, hf⟩ := rb_bd hf
  refine rb_hI C fl_J0_22_J1 e_2 dJ0_getCoder_7 ?_
  refine rb_goto (tgt := 14) C dJ0_getCoder_10 (by decide) ?_
  by_cases c_g_3 : narrow .byte (.int v_1) = .int v_1
  rotate_left
  · exact absurd ((if_neg c_g_3).symm.trans hf) (fun z => by cases z)
  have hf := (if_pos c_g_3).symm.trans hf
  cases hf
  exact rb_iret C rfl c_g_3 (Nat.zero_le _) (Nat.zero_le _) dJ0_getCoder_14 ⟨rfl, rfl, rfl, c_g_3⟩
def f_J0_inflateIfNeededFor_2 (Ev : rb_E) (h : AH) (n : Nat) (o : Nat) (x1 : Nat) : Option (Unit × AH × Nat × Nat) := ((hp_i Ev h o 13 1).bind fun v_1 => ((hp_k Ev h x1 13).bind fun u_3 => ((f_J0_getCoder Ev h x1).bind fun v_6 => (if v_1 = v_6 then (some ((), h, 0, 0)) else ((hp_k Ev h o 13).bind fun u_9 => ((f_J0_inflate Ev h n o).bind fun (r_12, h_13, k_14, s_15) => (ad k_14 s_15 (some ((), h_13, 0, 0)))))))))
abbrev rm_J0_inflateIfNeededFor_2 (k s : Nat) : Room := { frames := 6, cells := k, slots := s, locals := 137 }
set_option maxHeartbeats 4000000 in
theorem ct_J0_inflateIfNeededFor_2 (Ev : rb_E) (h : AH) (n : Nat) (o : Nat) (x1 : Nat) (r : Unit) (h' : AH) (k s : Nat) (hf : f_J0_inflateIfNeededFor_2 Ev h n o x1 = some (r, h', k, s)) : Ct Ev yJ0_inflateIfNeededFor_2 (ws_ yJ0_inflateIfNeededFor_2 cJ0_inflateIfNeededFor_2 2 none) (rm_J0_inflateIfNeededFor_2 k s) [.ref o, .ref x1] h n (pX (.inl (none)) h' (n + k)) := by
  rw [f_J0_inflateIfNeededFor_2] at hf
  refine Ct.of rfl (Nat.le_of_ble_eq_true rfl) fun X C hnm => ?_
  have C : Cx Ev X RJ0 cJ0_inflateIfNeededFor_2 2 none [] := C
  show Wa Ev X (rm_J0_inflateIfNeededFor_2 k s) 2 h n 0 0 (rb_MQ Ev X (rm_J0_inflateIfNeededFor_2 k s) (pX (.inl (none)) h' (n + k))) 0 [(0, .ref o), (1, .ref x1)] []
  have hb : Bd (n + k) k s n 0 0 k s := ⟨rfl, Nat.le_of_eq (Nat.zero_add _), Nat.le_of_eq (Nat.zero_add _)⟩
  refine rb_gets (v := .int 1) C q140 q141 (C.pf.2.2.1.1) dJ0_inflateIfNeededFor_2_0 ?_
  refine rb_if_eq (tgt := 21) C dJ0_inflateIfNeededFor_2_3 (by decide) (fun c => absurd c (by decide)) (fun _ => ?_)
  refine rb_aload_n C dJ0_inflateIfNeededFor_2_6 rfl 0 rfl ?_
  obtain ⟨v_1, e_2, hf⟩ := rb_bd hf
  refine rb_hI C fl_J0_22_J1 e_2 dJ0_inflateIfNeededFor_2_7 ?_
  refine rb_aload_n C dJ0_inflateIfNeededFor_2_10 rfl 1 rfl ?_
  obtain ⟨u_3, e_4, hf⟩ := rb_bd hf
  obtain ⟨v_6, e_7, hf⟩ := rb_bd hf
  refine rb_callU (As := []) (rest := [.int v_1]) C mi_J0_getCoder su_J0_70_J1 (hp_k_isC C.pf e_4 ck_J1) (ct_J0_getCoder Ev h n x1 _ e_7) rfl rfl (Nat.le_of_ble_eq_true rfl) ⟨Nat.le_of_ble_eq_true rfl, Nat.le_of_ble_eq_true rfl, hb.c0, hb.s0⟩ dJ0_inflateIfNeededFor_2_11 rb_xXi (rb_kXi fun hn_5 => (rb_w (kc := 0) (ks := 0) rfl rfl ?_))
  refine rb_icmp_eq (tgt := 21) C dJ0_inflateIfNeededFor_2_14 (by decide) (fun c_8 => ?_) (fun c_8 => ?_)
  · have hf := (if_pos c_8).symm.trans hf
    cases hf
    exact rb_vret C rfl hb.e.2.1 hb.e.2.2 dJ0_inflateIfNeededFor_2_21 ⟨rfl, rfl, hb.e.1⟩
  · have hf := (if_neg c_8).symm.trans hf
    refine rb_aload_n C dJ0_inflateIfNeededFor_2_17 rfl 0 rfl ?_
    obtain ⟨u_9, e_10, hf⟩ := rb_bd hf
    obtain ⟨⟨r_12, h_13, k_14, s_15⟩, e_16, hf⟩ := rb_bd hf
    obtain ⟨a_19, b_20, hf, ea_17, eb_18⟩ := ad_at hf
    refine rb_callVP (As := []) (rest := []) C mi_J0_inflate sp_J0_195 (hp_k_isC C.pf e_10 ck_J1) (ct_J0_inflate Ev h n o r_12 _ _ _ e_16) rfl rfl (Nat.le_of_ble_eq_true rfl) ⟨Nat.le_of_ble_eq_true rfl, Nat.le_of_ble_eq_true rfl, Bd.c1 hb ea_17, Bd.s1 hb eb_18⟩ dJ0_inflateIfNeededFor_2_18 rb_xX (rb_kX (rb_w (kc := (0 + k_14)) (ks := (0 + s_15)) rfl rfl ?_))
    have hb := Bd.ade hb ea_17 eb_18
    cases hf
    exact rb_vret C rfl hb.e.2.1 hb.e.2.2 dJ0_inflateIfNeededFor_2_21 ⟨rfl, rfl, hb.e.1⟩
