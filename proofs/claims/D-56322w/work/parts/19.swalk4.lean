set_option maxRecDepth 100000
set_option linter.unusedVariables false
def f_J2_init_2 (Ev : rb_E) (h : AH) (n : Nat) (o : Nat) (x1 : Nat) (x2 : Option Nat) : Option (Unit × AH × Nat × Nat) := (match x2 with | none => ((hp_k Ev h x1 13).bind fun u_1 => ((f_J0_getValue Ev h x1).bind fun v_4 => ((hp_k Ev h x1 13).bind fun u_6 => ((f_J1_length Ev h x1).bind fun v_9 => ((hp_k Ev h x1 13).bind fun u_11 => ((f_J0_isLatin1 Ev h x1).bind fun v_14 => (if v_14 = 0 then ((hp_i Ev h x1 13 2).bind fun v_17 => (if v_17 = 0 then ((hp_put h o 14 1 (.int 1)).bind fun h_20 => ((f_J9_copyOfRange Ev h_20 n v_4 0 (v_9 <<< (1 &&& 31))).bind fun (r_23, h_24, k_25, s_26) => (ad k_25 s_26 ((hp_put h_24 o 14 0 (.ref r_23)).bind fun h_32 => (some ((), h_32, 0, 0)))))) else ((f_J3_compress Ev h n v_4 0 v_9).bind fun (r_35, h_36, k_37, s_38) => (ad k_37 s_38 ((hp_put h_36 o 14 0 (.ref r_35)).bind fun h_44 => ((hp_p Ev h_44 o 14 0).bind fun v_46 => ((f_J3_coderFromArrayLen Ev h_44 v_46 v_9).bind fun v_49 => (if narrow .byte (.int v_49) = .int v_49 ∧ fits .byte (.int v_49) = true then ((hp_put h_44 o 14 1 (.int v_49)).bind fun h_52 => (some ((), h_52, 0, 0))) else none)))))))) else ((hp_put h o 14 1 (.int 0)).bind fun h_54 => ((f_J9_copyOfRange Ev h_54 n v_4 0 v_9).bind fun (r_57, h_58, k_59, s_60) => (ad k_59 s_60 ((hp_put h_58 o 14 0 (.ref r_57)).bind fun h_66 => (some ((), h_66, 0, 0))))))))))))) | some x2_q => ((hp_k Ev h x1 13).bind fun u_68 => ((f_J0_getValue Ev h x1).bind fun v_71 => ((hp_k Ev h x1 13).bind fun u_73 => ((f_J1_length Ev h x1).bind fun v_76 => ((hp_k Ev h x1 13).bind fun u_78 => ((f_J0_isLatin1 Ev h x1).bind fun v_81 => (if v_81 = 0 then ((hp_i Ev h x1 13 2).bind fun v_84 => (if v_84 = 0 then ((hp_put h o 14 1 (.int 1)).bind fun h_87 => ((f_J9_copyOfRange Ev h_87 n v_71 0 (v_76 <<< (1 &&& 31))).bind fun (r_90, h_91, k_92, s_93) => (ad k_92 s_93 ((hp_put h_91 o 14 0 (.ref r_90)).bind fun h_99 => (some ((), h_99, 0, 0)))))) else ((f_J3_compress Ev h n v_71 0 v_76).bind fun (r_102, h_103, k_104, s_105) => (ad k_104 s_105 ((hp_put h_103 o 14 0 (.ref r_102)).bind fun h_111 => ((hp_p Ev h_111 o 14 0).bind fun v_113 => ((f_J3_coderFromArrayLen Ev h_111 v_113 v_76).bind fun v_116 => (if narrow .byte (.int v_116) = .int v_116 ∧ fits .byte (.int v_116) = true then ((hp_put h_111 o 14 1 (.int v_116)).bind fun h_119 => (some ((), h_119, 0, 0))) else none)))))))) else ((hp_put h o 14 1 (.int 0)).bind fun h_121 => ((f_J9_copyOfRange Ev h_121 n v_71 0 v_76).bind fun (r_124, h_125, k_126, s_127) => (ad k_126 s_127 ((hp_put h_125 o 14 0 (.ref r_124)).bind fun h_133 => (some ((), h_133, 0, 0))))))))))))))
abbrev rm_J2_init_2 (k s : Nat) : Room := { frames := 5, cells := k, slots := s, locals := 131 }
set_option maxHeartbeats 4000000 in
theorem ct_J2_init_2 (Ev : rb_E) (h : AH) (n : Nat) (o : Nat) (x1 : Nat) (x2 : Option Nat) (r : Unit) (h' : AH) (k s : Nat) (hf : f_J2_init_2 Ev h n o x1 x2 = some (r, h', k, s)) : Ct Ev yJ2_init_2 (ws_ yJ2_init_2 cJ2_init_2 5 none) (rm_J2_init_2 k s) [.ref o, .ref x1, va_rf x2] h n (pX (.inl (none)) h' (n + k)) := by
  unfold f_J2_init_2 at hf
  cases x2 with
  | none =>
    dsimp only at hf
    refine Ct.of rfl (Nat.le_of_ble_eq_true rfl) fun X C hnm => ?_
    have C : Cx Ev X RJ2 cJ2_init_2 5 none [] := C
    show Wa Ev X (rm_J2_init_2 k s) 5 h n 0 0 (rb_MQ Ev X (rm_J2_init_2 k s) (pX (.inl (none)) h' (n + k))) 0 [(0, .ref o), (1, .ref x1), (2, .null)] []
    have hb : Bd (n + k) k s n 0 0 k s := ⟨rfl, Nat.le_of_eq (Nat.zero_add _), Nat.le_of_eq (Nat.zero_add _)⟩
    refine rb_aload_n C dJ2_init_2_0 rfl 0 rfl ?_
    refine rb_objInit C q679 q123 q124 dJ2_init_2_1 (Nat.le_of_ble_eq_true rfl) (Nat.le_of_ble_eq_true rfl) ?_
    refine rb_aload_n C dJ2_init_2_4 rfl 1 rfl ?_
    obtain ⟨u_1, e_2, hf⟩ := rb_bd hf
    obtain ⟨v_4, e_5, hf⟩ := rb_bd hf
    refine rb_callU (As := []) (rest := []) C mi_J0_getValue su_J2_552_J1 (hp_k_isC C.pf e_2 ck_J1) (ct_J0_getValue Ev h n x1 _ e_5) rfl rfl (Nat.le_of_ble_eq_true rfl) ⟨Nat.le_of_ble_eq_true rfl, Nat.le_of_ble_eq_true rfl, hb.c0, hb.s0⟩ dJ2_init_2_5 rb_xX (rb_kX (rb_w (kc := 0) (ks := 0) rfl rfl ?_))
    refine rb_astore_n (lv' := [(3, .ref v_4), (0, .ref o), (1, .ref x1), (2, .null)]) C dJ2_init_2_8 rfl (by decide) rfl ?_
    refine rb_aload_n C dJ2_init_2_9 rfl 2 rfl ?_
    obtain ⟨u_6, e_7, hf⟩ := rb_bd hf
    obtain ⟨v_9, e_10, hf⟩ := rb_bd hf
    refine rb_callVO (As := []) (rest := []) C mi_J1_length so_J2_549_J1_length (hp_k_isC C.pf e_7 ck_J1) (ct_J1_length Ev h n x1 _ e_10) rfl rfl (Nat.le_of_ble_eq_true rfl) ⟨Nat.le_of_ble_eq_true rfl, Nat.le_of_ble_eq_true rfl, hb.c0, hb.s0⟩ dJ2_init_2_10 rb_xXi (rb_kXi fun hn_8 => (rb_w (kc := 0) (ks := 0) rfl rfl ?_))
    refine rb_istore (lv' := [(4, .int v_9), (3, .ref v_4), (0, .ref o), (1, .ref x1), (2, .null)]) C dJ2_init_2_13 (by decide) rfl ?_
    refine rb_aload_n C dJ2_init_2_15 rfl 3 rfl ?_
    obtain ⟨u_11, e_12, hf⟩ := rb_bd hf
    obtain ⟨v_14, e_15, hf⟩ := rb_bd hf
    refine rb_callU (As := []) (rest := []) C mi_J0_isLatin1 su_J2_1047_J1 (hp_k_isC C.pf e_12 ck_J1) (ct_J0_isLatin1 Ev h n x1 _ e_15) rfl rfl (Nat.le_of_ble_eq_true rfl) ⟨Nat.le_of_ble_eq_true rfl, Nat.le_of_ble_eq_true rfl, hb.c0, hb.s0⟩ dJ2_init_2_16 rb_xXi (rb_kXi fun hn_13 => (rb_w (kc := 0) (ks := 0) rfl rfl ?_))
    refine rb_if_eq (tgt := 41) C dJ2_init_2_19 (by decide) (fun c_16 => ?_) (fun c_16 => ?_)
    · have hf := (if_pos c_16).symm.trans hf
      refine rb_gets (v := .int 1) C q363 q141 (C.pf.2.2.1.1) dJ2_init_2_41 ?_
      refine rb_if_eq (tgt := 79) C dJ2_init_2_44 (by decide) (fun c => absurd c (by decide)) (fun _ => ?_)
      refine rb_aload_n C dJ2_init_2_47 rfl 3 rfl ?_
      obtain ⟨v_17, e_18, hf⟩ := rb_bd hf
      refine rb_hI C fl_J2_1048_J1 e_18 dJ2_init_2_48 ?_
      refine rb_if_eq (tgt := 79) C dJ2_init_2_51 (by decide) (fun c_19 => ?_) (fun c_19 => ?_)
      · have hf := (if_pos c_19).symm.trans hf
        refine rb_aload_n C dJ2_init_2_79 rfl 2 rfl ?_
        refine rb_iconst (v := 1) C dJ2_init_2_80 rfl ?_
        obtain ⟨h_20, e_21, hf⟩ := rb_bd hf
        refine rb_hputF C ff_J2_15_J2 hnm e_21 rfl rfl dJ2_init_2_81 ?_
        refine rb_aload_n C dJ2_init_2_84 rfl 2 rfl ?_
        refine rb_aload_n C dJ2_init_2_85 rfl 1 rfl ?_
        refine rb_iconst (v := 0) C dJ2_init_2_86 rfl ?_
        refine rb_iload C dJ2_init_2_87 0 rfl ?_
        refine rb_iconst (v := 1) C dJ2_init_2_89 rfl ?_
        refine rb_ishl C dJ2_init_2_90 ?_
        obtain ⟨⟨r_23, h_24, k_25, s_26⟩, e_27, hf⟩ := rb_bd hf
        obtain ⟨a_30, b_31, hf, ea_28, eb_29⟩ := ad_at hf
        refine rb_callS (As := [.ref v_4, .int 0, .int (v_9 <<< (1 &&& 31))]) (rest := [.ref o]) C mi_J9_copyOfRange ss_J2_54 (ct_J9_copyOfRange Ev h_20 n v_4 0 (v_9 <<< (1 &&& 31)) r_23 _ _ _ e_27) rfl rfl (Nat.le_of_ble_eq_true rfl) ⟨Nat.le_of_ble_eq_true rfl, Nat.le_of_ble_eq_true rfl, Bd.c1 hb ea_28, Bd.s1 hb eb_29⟩ dJ2_init_2_91 rb_xX (rb_kX (rb_w (kc := (0 + k_25)) (ks := (0 + s_26)) rfl rfl ?_))
        have hb := Bd.ade hb ea_28 eb_29
        obtain ⟨h_32, e_33, hf⟩ := rb_bd hf
        refine rb_hputF C ff_J2_9_J2 hnm e_33 rfl rfl dJ2_init_2_94 ?_
        cases hf
        exact rb_vret C rfl hb.e.2.1 hb.e.2.2 dJ2_init_2_97 ⟨rfl, rfl, hb.e.1⟩
      · have hf := (if_neg c_19).symm.trans hf
        refine rb_aload_n C dJ2_init_2_54 rfl 2 rfl ?_
        refine rb_aload_n C dJ2_init_2_55 rfl 1 rfl ?_
        refine rb_iconst (v := 0) C dJ2_init_2_56 rfl ?_
        refine rb_iload C dJ2_init_2_57 0 rfl ?_
        obtain ⟨⟨r_35, h_36, k_37, s_38⟩, e_39, hf⟩ := rb_bd hf
        obtain ⟨a_42, b_43, hf, ea_40, eb_41⟩ := ad_at hf
        refine rb_callS (As := [.ref v_4, .int 0, .int v_9]) (rest := [.ref o]) C mi_J3_compress ss_J2_1051 (ct_J3_compress Ev h n v_4 0 v_9 r_35 _ _ _ e_39) rfl rfl (Nat.le_of_ble_eq_true rfl) ⟨Nat.le_of_ble_eq_true rfl, Nat.le_of_ble_eq_true rfl, Bd.c1 hb ea_40, Bd.s1 hb eb_41⟩ dJ2_init_2_59 rb_xX (rb_kX (rb_w (kc := (0 + k_37)) (ks := (0 + s_38)) rfl rfl ?_))
        have hb := Bd.ade hb ea_40 eb_41
        obtain ⟨h_44, e_45, hf⟩ := rb_bd hf
        refine rb_hputF C ff_J2_9_J2 hnm e_45 rfl rfl dJ2_init_2_62 ?_
        refine rb_aload_n C dJ2_init_2_65 rfl 2 rfl ?_
        refine rb_aload_n C dJ2_init_2_66 rfl 2 rfl ?_
        obtain ⟨v_46, e_47, hf⟩ := rb_bd hf
        refine rb_hP C fl_J2_9_J2 e_47 dJ2_init_2_67 ?_
        refine rb_iload C dJ2_init_2_70 0 rfl ?_
        obtain ⟨v_49, e_50, hf⟩ := rb_bd hf
        refine rb_callS (As := [.ref v_46, .int v_9]) (rest := [.ref o]) C mi_J3_coderFromArrayLen ss_J2_47 (ct_J3_coderFromArrayLen Ev h_44 (n + k_37) v_46 v_9 _ e_50) rfl rfl (Nat.le_of_ble_eq_true rfl) ⟨Nat.le_of_ble_eq_true rfl, Nat.le_of_ble_eq_true rfl, hb.c0, hb.s0⟩ dJ2_init_2_72 rb_xXi (rb_kXi fun hn_48 => (rb_w (kc := (0 + k_37)) (ks := (0 + s_38)) rfl rfl ?_))
        by_cases c_g_51 : narrow .byte (.int v_49) = .int v_49 ∧ fits .byte (.int v_49) = true
        rotate_left
        · exact absurd ((if_neg c_g_51).symm.trans hf) (fun z => by cases z)
        have hf := (if_pos c_g_51).symm.trans hf
        obtain ⟨h_52, e_53, hf⟩ := rb_bd hf
        refine rb_hputF C ff_J2_15_J2 hnm e_53 c_g_51.1 c_g_51.2 dJ2_init_2_75 ?_
        cases hf
        exact rb_vret C rfl hb.e.2.1 hb.e.2.2 dJ2_init_2_78 ⟨rfl, rfl, hb.e.1⟩
    · have hf := (if_neg c_16).symm.trans hf
      refine rb_aload_n C dJ2_init_2_22 rfl 2 rfl ?_
      refine rb_iconst (v := 0) C dJ2_init_2_23 rfl ?_
      obtain ⟨h_54, e_55, hf⟩ := rb_bd hf
      refine rb_hputF C ff_J2_15_J2 hnm e_55 rfl rfl dJ2_init_2_24 ?_
      refine rb_aload_n C dJ2_init_2_27 rfl 2 rfl ?_
      refine rb_aload_n C dJ2_init_2_28 rfl 1 rfl ?_
      refine rb_iconst (v := 0) C dJ2_init_2_29 rfl ?_
      refine rb_iload C dJ2_init_2_30 0 rfl ?_
      obtain ⟨⟨r_57, h_58, k_59, s_60⟩, e_61, hf⟩ := rb_bd hf
      obtain ⟨a_64, b_65, hf, ea_62, eb_63⟩ := ad_at hf
      refine rb_callS (As := [.ref v_4, .int 0, .int v_9]) (rest := [.ref o]) C mi_J9_copyOfRange ss_J2_54 (ct_J9_copyOfRange Ev h_54 n v_4 0 v_9 r_57 _ _ _ e_61) rfl rfl (Nat.le_of_ble_eq_true rfl) ⟨Nat.le_of_ble_eq_true rfl, Nat.le_of_ble_eq_true rfl, Bd.c1 hb ea_62, Bd.s1 hb eb_63⟩ dJ2_init_2_32 rb_xX (rb_kX (rb_w (kc := (0 + k_59)) (ks := (0 + s_60)) rfl rfl ?_))
      have hb := Bd.ade hb ea_62 eb_63
      obtain ⟨h_66, e_67, hf⟩ := rb_bd hf
      refine rb_hputF C ff_J2_9_J2 hnm e_67 rfl rfl dJ2_init_2_35 ?_
      refine rb_goto (tgt := 97) C dJ2_init_2_38 (by decide) ?_
      cases hf
      exact rb_vret C rfl hb.e.2.1 hb.e.2.2 dJ2_init_2_97 ⟨rfl, rfl, hb.e.1⟩
  | some x2_q =>
    dsimp only at hf
    refine Ct.of rfl (Nat.le_of_ble_eq_true rfl) fun X C hnm => ?_
    have C : Cx Ev X RJ2 cJ2_init_2 5 none [] := C
    show Wa Ev X (rm_J2_init_2 k s) 5 h n 0 0 (rb_MQ Ev X (rm_J2_init_2 k s) (pX (.inl (none)) h' (n + k))) 0 [(0, .ref o), (1, .ref x1), (2, .ref x2_q)] []
    have hb : Bd (n + k) k s n 0 0 k s := ⟨rfl, Nat.le_of_eq (Nat.zero_add _), Nat.le_of_eq (Nat.zero_add _)⟩
    refine rb_aload_n C dJ2_init_2_0 rfl 0 rfl ?_
    refine rb_objInit C q679 q123 q124 dJ2_init_2_1 (Nat.le_of_ble_eq_true rfl) (Nat.le_of_ble_eq_true rfl) ?_
    refine rb_aload_n C dJ2_init_2_4 rfl 1 rfl ?_
    obtain ⟨u_68, e_69, hf⟩ := rb_bd hf
    obtain ⟨v_71, e_72, hf⟩ := rb_bd hf
    refine rb_callU (As := []) (rest := []) C mi_J0_getValue su_J2_552_J1 (hp_k_isC C.pf e_69 ck_J1) (ct_J0_getValue Ev h n x1 _ e_72) rfl rfl (Nat.le_of_ble_eq_true rfl) ⟨Nat.le_of_ble_eq_true rfl, Nat.le_of_ble_eq_true rfl, hb.c0, hb.s0⟩ dJ2_init_2_5 rb_xX (rb_kX (rb_w (kc := 0) (ks := 0) rfl rfl ?_))
    refine rb_astore_n (lv' := [(3, .ref v_71), (0, .ref o), (1, .ref x1), (2, .ref x2_q)]) C dJ2_init_2_8 rfl (by decide) rfl ?_
    refine rb_aload_n C dJ2_init_2_9 rfl 2 rfl ?_
    obtain ⟨u_73, e_74, hf⟩ := rb_bd hf
    obtain ⟨v_76, e_77, hf⟩ := rb_bd hf
    refine rb_callVO (As := []) (rest := []) C mi_J1_length so_J2_549_J1_length (hp_k_isC C.pf e_74 ck_J1) (ct_J1_length Ev h n x1 _ e_77) rfl rfl (Nat.le_of_ble_eq_true rfl) ⟨Nat.le_of_ble_eq_true rfl, Nat.le_of_ble_eq_true rfl, hb.c0, hb.s0⟩ dJ2_init_2_10 rb_xXi (rb_kXi fun hn_75 => (rb_w (kc := 0) (ks := 0) rfl rfl ?_))
    refine rb_istore (lv' := [(4, .int v_76), (3, .ref v_71), (0, .ref o), (1, .ref x1), (2, .ref x2_q)]) C dJ2_init_2_13 (by decide) rfl ?_
    refine rb_aload_n C dJ2_init_2_15 rfl 3 rfl ?_
    obtain ⟨u_78, e_79, hf⟩ := rb_bd hf
    obtain ⟨v_81, e_82, hf⟩ := rb_bd hf
    refine rb_callU (As := []) (rest := []) C mi_J0_isLatin1 su_J2_1047_J1 (hp_k_isC C.pf e_79 ck_J1) (ct_J0_isLatin1 Ev h n x1 _ e_82) rfl rfl (Nat.le_of_ble_eq_true rfl) ⟨Nat.le_of_ble_eq_true rfl, Nat.le_of_ble_eq_true rfl, hb.c0, hb.s0⟩ dJ2_init_2_16 rb_xXi (rb_kXi fun hn_80 => (rb_w (kc := 0) (ks := 0) rfl rfl ?_))
    refine rb_if_eq (tgt := 41) C dJ2_init_2_19 (by decide) (fun c_83 => ?_) (fun c_83 => ?_)
    · have hf := (if_pos c_83).symm.trans hf
      refine rb_gets (v := .int 1) C q363 q141 (C.pf.2.2.1.1) dJ2_init_2_41 ?_
      refine rb_if_eq (tgt := 79) C dJ2_init_2_44 (by decide) (fun c => absurd c (by decide)) (fun _ => ?_)
      refine rb_aload_n C dJ2_init_2_47 rfl 3 rfl ?_
      obtain ⟨v_84, e_85, hf⟩ := rb_bd hf
      refine rb_hI C fl_J2_1048_J1 e_85 dJ2_init_2_48 ?_
      refine rb_if_eq (tgt := 79) C dJ2_init_2_51 (by decide) (fun c_86 => ?_) (fun c_86 => ?_)
      · have hf := (if_pos c_86).symm.trans hf
        refine rb_aload_n C dJ2_init_2_79 rfl 2 rfl ?_
        refine rb_iconst (v := 1) C dJ2_init_2_80 rfl ?_
        obtain ⟨h_87, e_88, hf⟩ := rb_bd hf
        refine rb_hputF C ff_J2_15_J2 hnm e_88 rfl rfl dJ2_init_2_81 ?_
        refine rb_aload_n C dJ2_init_2_84 rfl 2 rfl ?_
        refine rb_aload_n C dJ2_init_2_85 rfl 1 rfl ?_
        refine rb_iconst (v := 0) C dJ2_init_2_86 rfl ?_
        refine rb_iload C dJ2_init_2_87 0 rfl ?_
        refine rb_iconst (v := 1) C dJ2_init_2_89 rfl ?_
        refine rb_ishl C dJ2_init_2_90 ?_
        obtain ⟨⟨r_90, h_91, k_92, s_93⟩, e_94, hf⟩ := rb_bd hf
        obtain ⟨a_97, b_98, hf, ea_95, eb_96⟩ := ad_at hf
        refine rb_callS (As := [.ref v_71, .int 0, .int (v_76 <<< (1 &&& 31))]) (rest := [.ref o]) C mi_J9_copyOfRange ss_J2_54 (ct_J9_copyOfRange Ev h_87 n v_71 0 (v_76 <<< (1 &&& 31)) r_90 _ _ _ e_94) rfl rfl (Nat.le_of_ble_eq_true rfl) ⟨Nat.le_of_ble_eq_true rfl, Nat.le_of_ble_eq_true rfl, Bd.c1 hb ea_95, Bd.s1 hb eb_96⟩ dJ2_init_2_91 rb_xX (rb_kX (rb_w (kc := (0 + k_92)) (ks := (0 + s_93)) rfl rfl ?_))
        have hb := Bd.ade hb ea_95 eb_96
        obtain ⟨h_99, e_100, hf⟩ := rb_bd hf
        refine rb_hputF C ff_J2_9_J2 hnm e_100 rfl rfl dJ2_init_2_94 ?_
        cases hf
        exact rb_vret C rfl hb.e.2.1 hb.e.2.2 dJ2_init_2_97 ⟨rfl, rfl, hb.e.1⟩
      · have hf := (if_neg c_86).symm.trans hf
        refine rb_aload_n C dJ2_init_2_54 rfl 2 rfl ?_
        refine rb_aload_n C dJ2_init_2_55 rfl 1 rfl ?_
        refine rb_iconst (v := 0) C dJ2_init_2_56 rfl ?_
        refine rb_iload C dJ2_init_2_57 0 rfl ?_
        obtain ⟨⟨r_102, h_103, k_104, s_105⟩, e_106, hf⟩ := rb_bd hf
        obtain ⟨a_109, b_110, hf, ea_107, eb_108⟩ := ad_at hf
        refine rb_callS (As := [.ref v_71, .int 0, .int v_76]) (rest := [.ref o]) C mi_J3_compress ss_J2_1051 (ct_J3_compress Ev h n v_71 0 v_76 r_102 _ _ _ e_106) rfl rfl (Nat.le_of_ble_eq_true rfl) ⟨Nat.le_of_ble_eq_true rfl, Nat.le_of_ble_eq_true rfl, Bd.c1 hb ea_107, Bd.s1 hb eb_108⟩ dJ2_init_2_59 rb_xX (rb_kX (rb_w (kc := (0 + k_104)) (ks := (0 + s_105)) rfl rfl ?_))
        have hb := Bd.ade hb ea_107 eb_108
        obtain ⟨h_111, e_112, hf⟩ := rb_bd hf
        refine rb_hputF C ff_J2_9_J2 hnm e_112 rfl rfl dJ2_init_2_62 ?_
        refine rb_aload_n C dJ2_init_2_65 rfl 2 rfl ?_
        refine rb_aload_n C dJ2_init_2_66 rfl 2 rfl ?_
        obtain ⟨v_113, e_114, hf⟩ := rb_bd hf
        refine rb_hP C fl_J2_9_J2 e_114 dJ2_init_2_67 ?_
        refine rb_iload C dJ2_init_2_70 0 rfl ?_
        obtain ⟨v_116, e_117, hf⟩ := rb_bd hf
        refine rb_callS (As := [.ref v_113, .int v_76]) (rest := [.ref o]) C mi_J3_coderFromArrayLen ss_J2_47 (ct_J3_coderFromArrayLen Ev h_111 (n + k_104) v_113 v_76 _ e_117) rfl rfl (Nat.le_of_ble_eq_true rfl) ⟨Nat.le_of_ble_eq_true rfl, Nat.le_of_ble_eq_true rfl, hb.c0, hb.s0⟩ dJ2_init_2_72 rb_xXi (rb_kXi fun hn_115 => (rb_w (kc := (0 + k_104)) (ks := (0 + s_105)) rfl rfl ?_))
        by_cases c_g_118 : narrow .byte (.int v_116) = .int v_116 ∧ fits .byte (.int v_116) = true
        rotate_left
        · exact absurd ((if_neg c_g_118).symm.trans hf) (fun z => by cases z)
        have hf := (if_pos c_g_118).symm.trans hf
        obtain ⟨h_119, e_120, hf⟩ := rb_bd hf
        refine rb_hputF C ff_J2_15_J2 hnm e_120 c_g_118.1 c_g_118.2 dJ2_init_2_75 ?_
        cases hf
        exact rb_vret C rfl hb.e.2.1 hb.e.2.2 dJ2_init_2_78 ⟨rfl, rfl, hb.e.1⟩
    · have hf := (if_neg c_83).symm.trans hf
      refine rb_aload_n C dJ2_init_2_22 rfl 2 rfl ?_
      refine rb_iconst (v := 0) C dJ2_init_2_23 rfl ?_
      obtain ⟨h_121, e_122, hf⟩ := rb_bd hf
      refine rb_hputF C ff_J2_15_J2 hnm e_122 rfl rfl dJ2_init_2_24 ?_
      refine rb_aload_n C dJ2_init_2_27 rfl 2 rfl ?_
      refine rb_aload_n C dJ2_init_2_28 rfl 1 rfl ?_
      refine rb_iconst (v := 0) C dJ2_init_2_29 rfl ?_
      refine rb_iload C dJ2_init_2_30 0 rfl ?_
      obtain ⟨⟨r_124, h_125, k_126, s_127⟩, e_128, hf⟩ := rb_bd hf
      obtain ⟨a_131, b_132, hf, ea_129, eb_130⟩ := ad_at hf
      refine rb_callS (As := [.ref v_71, .int 0, .int v_76]) (rest := [.ref o]) C mi_J9_copyOfRange ss_J2_54 (ct_J9_copyOfRange Ev h_121 n v_71 0 v_76 r_124 _ _ _ e_128) rfl rfl (Nat.le_of_ble_eq_true rfl) ⟨Nat.le_of_ble_eq_true rfl, Nat.le_of_ble_eq_true rfl, Bd.c1 hb ea_129, Bd.s1 hb eb_130⟩ dJ2_init_2_32 rb_xX (rb_kX (rb_w (kc := (0 + k_126)) (ks := (0 + s_127)) rfl rfl ?_))
      have hb := Bd.ade hb ea_129 eb_130
      obtain ⟨h_133, e_134, hf⟩ := rb_bd hf
      refine rb_hputF C ff_J2_9_J2 hnm e_134 rfl rfl dJ2_init_2_35 ?_
      refine rb_goto (tgt := 97) C dJ2_init_2_38 (by decide) ?_
      cases hf
      exact rb_vret C rfl hb.e.2.1 hb.e.2.2 dJ2_init_2_97 ⟨rfl, rfl, hb.e.1⟩
def f_J2_init (Ev : rb_E) (h : AH) (n : Nat) (o : Nat) (x1 : Nat) : Option (Unit × AH × Nat × Nat) := ((f_J2_init_2 Ev h n o x1 none).bind fun (r_2, h_3, k_4, s_5) => (ad k_4 s_5 (some ((), h_3, 0, 0))))
abbrev rm_J2_init (k s : Nat) : Room := { frames := 6, cells := k, slots := s, locals := 155 }
set_option maxHeartbeats 4000000 in
theorem ct_J2_init (Ev : rb_E) (h : AH) (n : Nat) (o : Nat) (x1 : Nat) (r : Unit) (h' : AH) (k s : Nat) (hf : f_J2_init Ev h n o x1 = some (r, h', k, s)) : Ct Ev yJ2_init (ws_ yJ2_init cJ2_init 2 none) (rm_J2_init k s) [.ref o, .ref x1] h n (pX (.inl (none)) h' (n + k)) := by
  rw [f_J2_init] at hf
  refine Ct.of rfl (Nat.le_of_ble_eq_true rfl) fun X C hnm => ?_
  have C : Cx Ev X RJ2 cJ2_init 2 none [] := C
  show Wa Ev X (rm_J2_init k s) 2 h n 0 0 (rb_MQ Ev X (rm_J2_init k s) (pX (.inl (none)) h' (n + k))) 0 [(0, .ref o), (1, .ref x1)] []
  have hb : Bd (n + k) k s n 0 0 k s := ⟨rfl, Nat.le_of_eq (Nat.zero_add _), Nat.le_of_eq (Nat.zero_add _)⟩
  refine rb_aload_n C dJ2_init_0 rfl 0 rfl ?_
  refine rb_aload_n C dJ2_init_1 rfl 1 rfl ?_
  refine rb_null C dJ2_init_2 ?_
  obtain ⟨⟨r_2, h_3, k_4, s_5⟩, e_6, hf⟩ := rb_bd hf
  obtain ⟨a_9, b_10, hf, ea_7, eb_8⟩ := ad_at hf
  refine rb_callI (As := [.ref x1, .null]) (rest := []) C mi_J2_init_2 si_J2_489 (ct_J2_init_2 Ev h n o x1 none r_2 _ _ _ e_6) rfl rfl (Nat.le_of_ble_eq_true rfl) ⟨Nat.le_of_ble_eq_true rfl, Nat.le_of_ble_eq_true rfl, Bd.c1 hb ea_7, Bd.s1 hb eb_8⟩ dJ2_init_3 rb_xX (rb_kX (rb_w (kc := (0 + k_4)) (ks := (0 + s_5)) rfl rfl ?_))
  have hb := Bd.ade hb ea_7 eb_8
  cases hf
  exact rb_vret C rfl hb.e.2.1 hb.e.2.2 dJ2_init_6 ⟨rfl, rfl, hb.e.1⟩
def f_J1_toString (Ev : rb_E) (h : AH) (n : Nat) (o : Nat) : Option (Nat × AH × Nat × Nat) := (ad 1 4 (rb_lt (va_up h n (some (.inr (14, [.null, .int 0, .int 0, .int 0])))) fun h_5 => ((f_J2_init Ev h_5 (n + 1) n o).bind fun (r_7, h_8, k_9, s_10) => (ad k_9 s_10 (some (n, h_8, 0, 0))))))
abbrev rm_J1_toString (k s : Nat) : Room := { frames := 7, cells := k, slots := s, locals := 176 }
set_option maxHeartbeats 4000000 in
theorem ct_J1_toString (Ev : rb_E) (h : AH) (n : Nat) (o : Nat) (r : Nat) (h' : AH) (k s : Nat) (hf : f_J1_toString Ev h n o = some (r, h', k, s)) : Ct Ev yJ1_toString (ws_ yJ1_toString cJ1_toString 1 (some (.object "java/lang/String"))) (rm_J1_toString k s) [.ref o] h n (pX (.inl (some (.ref r))) h' (n + k)) := by
  rw [f_J1_toString] at hf
  refine Ct.of rfl (Nat.le_of_ble_eq_true rfl) fun X C hnm => ?_
  have C : Cx Ev X RJ1 cJ1_toString 1 (some (.object "java/lang/String")) [] := C
  show Wa Ev X (rm_J1_toString k s) 1 h n 0 0 (rb_MQ Ev X (rm_J1_toString k s) (pX (.inl (some (.ref r))) h' (n + k))) 0 [(0, .ref o)] []
  have hb : Bd (n + k) k s n 0 0 k s := ⟨rfl, Nat.le_of_eq (Nat.zero_add _), Nat.le_of_eq (Nat.zero_add _)⟩
  obtain ⟨a_3, b_4, hf, ea_1, eb_2⟩ := ad_at hf
  refine rb_hnew C ck_J2 q671 q672 q73 [.null, .int 0, .int 0, .int 0] rfl (Bd.c1 hb ea_1) (Bd.s1 hb eb_2) dJ1_toString_0 ?_
  have hb := Bd.ade hb ea_1 eb_2
  obtain ⟨h_5, e_h_5⟩ : ∃ z, z = (va_up h n (some (.inr (14, [.null, .int 0, .int 0, .int 0])))) := ⟨_, rfl⟩
  rw [← e_h_5]
  have hf := rb_let hf e_h_5
  refine rb_dup C dJ1_toString_3 rfl ?_
  refine rb_aload_n C dJ1_toString_4 rfl 0 rfl ?_
  obtain ⟨⟨r_7, h_8, k_9, s_10⟩, e_11, hf⟩ := rb_bd hf
  obtain ⟨a_14, b_15, hf, ea_12, eb_13⟩ := ad_at hf
  refine rb_callI (As := [.ref o]) (rest := [.ref n]) C mi_J2_init si_J1_137 (ct_J2_init Ev h_5 (n + 1) n o r_7 _ _ _ e_11) rfl rfl (Nat.le_of_ble_eq_true rfl) ⟨Nat.le_of_ble_eq_true rfl, Nat.le_of_ble_eq_true rfl, Bd.c1 hb ea_12, Bd.s1 hb eb_13⟩ dJ1_toString_5 rb_xX (rb_kX (rb_w (kc := ((0 + 1) + k_9)) (ks := ((0 + 4) + s_10)) rfl rfl ?_))
  have hb := Bd.ade hb ea_12 eb_13
  cases hf
  exact rb_aret C rfl (Or.inl ⟨_, rfl⟩) (Or.inr ⟨_, rfl⟩) hb.e.2.1 hb.e.2.2 dJ1_toString_8 ⟨rfl, rfl, hb.e.1⟩
def f_X7_init (Ev : rb_E) (h : AH) (n : Nat) (o : Nat) (x1 : Nat) (x2 : Nat) : Option (Unit × AH × Nat × Nat) := ((hp_put h o 5 0 (.ref x1)).bind fun h_1 => ((hp_put h_1 o 5 1 (.ref x2)).bind fun h_3 => (some ((), h_3, 0, 0))))
abbrev rm_X7_init (k s : Nat) : Room := { frames := 1, cells := k, slots := s, locals := 40 }
set_option maxHeartbeats 4000000 in
theorem ct_X7_init (Ev : rb_E) (h : AH) (n : Nat) (o : Nat) (x1 : Nat) (x2 : Nat) (r : Unit) (h' : AH) (k s : Nat) (hf : f_X7_init Ev h n o x1 x2 = some (r, h', k, s)) : Ct Ev yX7_init (ws_ yX7_init cX7_init 3 none) (rm_X7_init k s) [.ref o, .ref x1, .ref x2] h n (pX (.inl (none)) h' (n + k)) := by
  rw [f_X7_init] at hf
  refine Ct.of rfl (Nat.le_of_ble_eq_true rfl) fun X C hnm => ?_
  have C : Cx Ev X RX7 cX7_init 3 none [] := C
  show Wa Ev X (rm_X7_init k s) 3 h n 0 0 (rb_MQ Ev X (rm_X7_init k s) (pX (.inl (none)) h' (n + k))) 0 [(0, .ref o), (1, .ref x1), (2, .ref x2)] []
  have hb : Bd (n + k) k s n 0 0 k s := ⟨rfl, Nat.le_of_eq (Nat.zero_add _), Nat.le_of_eq (Nat.zero_add _)⟩
  refine rb_aload_n C dX7_init_0 rfl 0 rfl ?_
  refine rb_objInit C q1070 q123 q124 dX7_init_1 (Nat.le_of_ble_eq_true rfl) (Nat.le_of_ble_eq_true rfl) ?_
  refine rb_aload_n C dX7_init_4 rfl 0 rfl ?_
  refine rb_aload_n C dX7_init_5 rfl 1 rfl ?_
  obtain ⟨h_1, e_2, hf⟩ := rb_bd hf
  refine rb_hputF C ff_X7_7_X7 hnm e_2 rfl rfl dX7_init_6 ?_
  refine rb_aload_n C dX7_init_9 rfl 0 rfl ?_
  refine rb_aload_n C dX7_init_10 rfl 2 rfl ?_
  obtain ⟨h_3, e_4, hf⟩ := rb_bd hf
  refine rb_hputF C ff_X7_13_X7 hnm e_4 rfl rfl dX7_init_11 ?_
  cases hf
  exact rb_vret C rfl hb.e.2.1 hb.e.2.2 dX7_init_14 ⟨rfl, rfl, hb.e.1⟩
def f_X7_take (Ev : rb_E) (h : AH) (n : Nat) (o : Nat) : Option (Int32 × AH × Nat × Nat) := ((hp_i Ev h o 5 2).bind fun v_1 => ((hp_put h o 5 2 (.int (v_1 + 1))).bind fun h_3 => ((hp_p Ev h_3 o 5 1).bind fun v_5 => ((hp_i Ev h_3 o 5 2).bind fun v_7 => ((hp_k Ev h_3 v_5 14).bind fun u_9 => ((f_J2_charAt Ev h_3 v_5 (v_7 - 1)).bind fun v_12 => (some (v_12, h_3, 0, 0))))))))
abbrev rm_X7_take (k s : Nat) : Room := { frames := 5, cells := k, slots := s, locals := 106 }
set_option maxHeartbeats 4000000 in
theorem ct_X7_take (Ev : rb_E) (h : AH) (n : Nat) (o : Nat) (r : Int32) (h' : AH) (k s : Nat) (hf : f_X7_take Ev h n o = some (r, h', k, s)) : Ct Ev yX7_take (ws_ yX7_take cX7_take 1 (some .char)) (rm_X7_take k s) [.ref o] h n (pXi .char r h' (n + k)) := by
  rw [f_X7_take] at hf
  refine Ct.of rfl (Nat.le_of_ble_eq_true rfl) fun X C hnm => ?_
  have C : Cx Ev X RX7 cX7_take 1 (some .char) [] := C
  show Wa Ev X (rm_X7_take k s) 1 h n 0 0 (rb_MQ Ev X (rm_X7_take k s) (pXi .char r h' (n + k))) 0 [(0, .ref o)] []
  have hb : Bd (n + k) k s n 0 0 k s := ⟨rfl, Nat.le_of_eq (Nat.zero_add _), Nat.le_of_eq (Nat.zero_add _)⟩
  refine rb_aload_n C dX7_take_0 rfl 0 rfl ?_
  refine rb_dup C dX7_take_1 rfl ?_
  obtain ⟨v_1, e_2, hf⟩ := rb_bd hf
  refine rb_hI C fl_X7_17_X7 e_2 dX7_take_2 ?_
  refine rb_iconst (v := 1) C dX7_take_5 rfl ?_
  refine rb_iadd C dX7_take_6 ?_
  obtain ⟨h_3, e_4, hf⟩ := rb_bd hf
  refine rb_hput C fw_X7_17_X7 e_4 rfl rfl dX7_take_7 ?_
  refine rb_aload_n C dX7_take_10 rfl 0 rfl ?_
  obtain ⟨v_5, e_6, hf⟩ := rb_bd hf
  refine rb_hP C fl_X7_13_X7 e_6 dX7_take_11 ?_
  refine rb_aload_n C dX7_take_14 rfl 0 rfl ?_
  obtain ⟨v_7, e_8, hf⟩ := rb_bd hf
  refine rb_hI C fl_X7_17_X7 e_8 dX7_take_15 ?_
  refine rb_iconst (v := 1) C dX7_take_18 rfl ?_
  refine rb_isub C dX7_take_19 ?_
  obtain ⟨u_9, e_10, hf⟩ := rb_bd hf
  obtain ⟨v_12, e_13, hf⟩ := rb_bd hf
  refine rb_callV (As := [.int (v_7 - 1)]) (rest := []) C mi_J2_charAt sv_X7_21 (hp_k_isC C.pf e_10 ck_J2) (ct_J2_charAt Ev h_3 n v_5 (v_7 - 1) _ e_13) rfl rfl (Nat.le_of_ble_eq_true rfl) ⟨Nat.le_of_ble_eq_true rfl, Nat.le_of_ble_eq_true rfl, hb.c0, hb.s0⟩ dX7_take_20 rb_xXi (rb_kXi fun hn_11 => (rb_w (kc := 0) (ks := 0) rfl rfl ?_))
  cases hf
  exact rb_iret C rfl hn_11 hb.e.2.1 hb.e.2.2 dX7_take_23 ⟨rfl, rfl, hb.e.1, hn_11⟩
def f_X9_init (Ev : rb_E) (h : AH) (n : Nat) (o : Nat) (x1 : Int32) (x2 : Int32) : Option (Unit × AH × Nat × Nat) := ((hp_put h o 7 0 (.int x1)).bind fun h_1 => (if narrow .char (.int x2) = .int x2 ∧ fits .char (.int x2) = true then ((hp_put h_1 o 7 1 (.int x2)).bind fun h_4 => (some ((), h_4, 0, 0))) else none))
abbrev rm_X9_init (k s : Nat) : Room := { frames := 1, cells := k, slots := s, locals := 40 }
set_option maxHeartbeats 4000000 in
theorem ct_X9_init (Ev : rb_E) (h : AH) (n : Nat) (o : Nat) (x1 : Int32) (x2 : Int32) (r : Unit) (h' : AH) (k s : Nat) (hf : f_X9_init Ev h n o x1 x2 = some (r, h', k, s)) : Ct Ev yX9_init (ws_ yX9_init cX9_init 3 none) (rm_X9_init k s) [.ref o, .int x1, .int x2] h n (pX (.inl (none)) h' (n + k)) := by
  rw [f_X9_init] at hf
  refine Ct.of rfl (Nat.le_of_ble_eq_true rfl) fun X C hnm => ?_
  have C : Cx Ev X RX9 cX9_init 3 none [] := C
  show Wa Ev X (rm_X9_init k s) 3 h n 0 0 (rb_MQ Ev X (rm_X9_init k s) (pX (.inl (none)) h' (n + k))) 0 [(0, .ref o), (1, .int x1), (2, .int x2)] []
  have hb : Bd (n + k) k s n 0 0 k s := ⟨rfl, Nat.le_of_eq (Nat.zero_add _), Nat.le_of_eq (Nat.zero_add _)⟩
  refine rb_aload_n C dX9_init_0 rfl 0 rfl ?_
  refine rb_objInit C q1119 q123 q124 dX9_init_1 (Nat.le_of_ble_eq_true rfl) (Nat.le_of_ble_eq_true rfl) ?_
  refine rb_aload_n C dX9_init_4 rfl 0 rfl ?_
  refine rb_iload_n C dX9_init_5 rfl 1 rfl ?_
  obtain ⟨h_1, e_2, hf⟩ := rb_bd hf
  refine rb_hputF C ff_X9_7_X9 hnm e_2 rfl rfl dX9_init_6 ?_
  refine rb_aload_n C dX9_init_9 rfl 0 rfl ?_
  refine rb_iload_n C dX9_init_10 rfl 2 rfl ?_
  by_cases c_g_3 : narrow .char (.int x2) = .int x2 ∧ fits .char (.int x2) = true
  rotate_left
  · exact absurd ((if_neg c_g_3).symm.trans hf) (fun z => by cases z)
  have hf := (if_pos c_g_3).symm.trans hf
  obtain ⟨h_4, e_5, hf⟩ := rb_bd hf
  refine rb_hputF C ff_X9_13_X9 hnm e_5 c_g_3.1 c_g_3.2 dX9_init_11 ?_
  cases hf
  exact rb_vret C rfl hb.e.2.1 hb.e.2.2 dX9_init_14 ⟨rfl, rfl, hb.e.1⟩
def f_X2_colourOf (Ev : rb_E) (h : AH) (n : Nat) (o : Nat) (x1 : Int32) : Option ((Int32 ⊕ (String × Nat)) × AH × Nat × Nat) := ((hp_p Ev h o 1 1).bind fun v_1 => ((f_X1_requiredIn Ev h n (eS Ev RX2 64) x1).bind fun (r_4, h_5, k_6, s_7) => (ad k_6 s_7 (match r_4 with | .inl v_13 => ((hp_il Ev h_5 v_1 v_13).bind fun v_16 => (some (.inl v_16, h_5, 0, 0))) | .inr (E_14, q_15) => (if E_14 = "java/lang/IllegalArgumentException" then (some (.inr ("java/lang/IllegalArgumentException", q_15), h_5, 0, 0)) else none)))))
abbrev rm_X2_colourOf (k s : Nat) : Room := { frames := 8, cells := k, slots := s, locals := 181 }
set_option maxHeartbeats 4000000 in
theorem ct_X2_colourOf (Ev : rb_E) (h : AH) (n : Nat) (o : Nat) (x1 : Int32) (r : Int32 ⊕ (String × Nat)) (h' : AH) (k s : Nat) (hf : f_X2_colourOf Ev h n o x1 = some (r, h', k, s)) : Ct Ev yX2_colourOf (ws_ yX2_colourOf cX2_colourOf 2 (some .int)) (rm_X2_colourOf k s) [.ref o, .int x1] h n (pX (rMap (fun v => some (.int v)) r) h' (n + k)) := by
  rw [f_X2_colourOf] at hf
  refine Ct.of rfl (Nat.le_of_ble_eq_true rfl) fun X C hnm => ?_
  have C : Cx Ev X RX2 cX2_colourOf 2 (some .int) [] := C
  show Wa Ev X (rm_X2_colourOf k s) 2 h n 0 0 (rb_MQ Ev X (rm_X2_colourOf k s) (pX (rMap (fun v => some (.int v)) r) h' (n + k))) 0 [(0, .ref o), (1, .int x1)] []
  have hb : Bd (n + k) k s n 0 0 k s := ⟨rfl, Nat.le_of_eq (Nat.zero_add _), Nat.le_of_eq (Nat.zero_add _)⟩
  refine rb_aload_n C dX2_colourOf_0 rfl 0 rfl ?_
  obtain ⟨v_1, e_2, hf⟩ := rb_bd hf
  refine rb_hP C fl_X2_18_X2 e_2 dX2_colourOf_1 ?_
  refine rb_ldcS C q786 dX2_colourOf_4 ?_
  refine rb_iload_n C dX2_colourOf_6 rfl 1 rfl ?_
  obtain ⟨⟨r_4, h_5, k_6, s_7⟩, e_8, hf⟩ := rb_bd hf
  obtain ⟨a_11, b_12, hf, ea_9, eb_10⟩ := ad_at hf
  rcases r_4 with v_13 | ⟨E_14, q_15⟩
  · dsimp only at hf
    refine rb_callSN (As := [.ref (eS Ev RX2 64), .int x1]) (rest := [.ref v_1]) C mi_X1_requiredIn ss_X2_66 (ct_X1_requiredIn Ev h n (eS Ev RX2 64) x1 (.inl v_13) _ _ _ e_8) rfl rfl (Nat.le_of_ble_eq_true rfl) ⟨Nat.le_of_ble_eq_true rfl, Nat.le_of_ble_eq_true rfl, Bd.c1 hb ea_9, Bd.s1 hb eb_10⟩ dX2_colourOf_7 rb_xX (rb_kX (r := some (.int v_13)) (rb_w (kc := (0 + k_6)) (ks := (0 + s_7)) rfl rfl ?_))
    have hb := Bd.ade hb ea_9 eb_10
    obtain ⟨v_16, e_17, hf⟩ := rb_bd hf
    refine rb_hil C e_17 dX2_colourOf_10 ?_
    cases hf
    exact rb_iret C rfl rfl hb.e.2.1 hb.e.2.2 dX2_colourOf_11 ⟨rfl, rfl, hb.e.1⟩
  · dsimp only at hf
    by_cases c_18 : E_14 = "java/lang/IllegalArgumentException"
    · have hf := (if_pos c_18).symm.trans hf
      subst c_18
      refine rb_callSN (As := [.ref (eS Ev RX2 64), .int x1]) (rest := [.ref v_1]) C mi_X1_requiredIn ss_X2_66 (ct_X1_requiredIn Ev h n (eS Ev RX2 64) x1 (.inr ("java/lang/IllegalArgumentException", q_15)) _ _ _ e_8) rfl rfl (Nat.le_of_ble_eq_true rfl) ⟨Nat.le_of_ble_eq_true rfl, Nat.le_of_ble_eq_true rfl, Bd.c1 hb ea_9, Bd.s1 hb eb_10⟩ dX2_colourOf_7 (rb_xY (E := "java/lang/IllegalArgumentException") (rb_wX (kc := (0 + k_6)) (ks := (0 + s_7)) rfl rfl ?_)) rb_kY
      have hb := Bd.ade hb ea_9 eb_10
      cases hf
      exact rb_out C (fun _ z => absurd z List.not_mem_nil) hb.e.2.1 hb.e.2.2 ⟨rfl, rfl, hb.e.1⟩
    have hf := (if_neg c_18).symm.trans hf
    cases hf
def f_X8_init (Ev : rb_E) (h : AH) (n : Nat) (o : Nat) (x1 : Int32) (x2 : Nat) : Option (Unit × AH × Nat × Nat) := ((hp_put h o 6 0 (.int x1)).bind fun h_1 => ((hp_put h_1 o 6 1 (.ref x2)).bind fun h_3 => (some ((), h_3, 0, 0))))
abbrev rm_X8_init (k s : Nat) : Room := { frames := 1, cells := k, slots := s, locals := 40 }
set_option maxHeartbeats 4000000 in
theorem ct_X8_init (Ev : rb_E) (h : AH) (n : Nat) (o : Nat) (x1 : Int32) (x2 : Nat) (r : Unit) (h' : AH) (k s : Nat) (hf : f_X8_init Ev h n o x1 x2 = some (r, h', k, s)) : Ct Ev yX8_init (ws_ yX8_init cX8_init 3 none) (rm_X8_init k s) [.ref o, .int x1, .ref x2] h n (pX (.inl (none)) h' (n + k)) := by
  rw [f_X8_init] at hf
  refine Ct.of rfl (Nat.le_of_ble_eq_true rfl) fun X C hnm => ?_
  have C : Cx Ev X RX8 cX8_init 3 none [] := C
  show Wa Ev X (rm_X8_init k s) 3 h n 0 0 (rb_MQ Ev X (rm_X8_init k s) (pX (.inl (none)) h' (n + k))) 0 [(0, .ref o), (1, .int x1), (2, .ref x2)] []
  have hb : Bd (n + k) k s n 0 0 k s := ⟨rfl, Nat.le_of_eq (Nat.zero_add _), Nat.le_of_eq (Nat.zero_add _)⟩
  refine rb_aload_n C dX8_init_0 rfl 0 rfl ?_
  refine rb_objInit C q1104 q123 q124 dX8_init_1 (Nat.le_of_ble_eq_true rfl) (Nat.le_of_ble_eq_true rfl) ?_
  refine rb_aload_n C dX8_init_4 rfl 0 rfl ?_
  refine rb_iload_n C dX8_init_5 rfl 1 rfl ?_
  obtain ⟨h_1, e_2, hf⟩ := rb_bd hf
  refine rb_hputF C ff_X8_7_X8 hnm e_2 rfl rfl dX8_init_6 ?_
  refine rb_aload_n C dX8_init_9 rfl 0 rfl ?_
  refine rb_aload_n C dX8_init_10 rfl 2 rfl ?_
  obtain ⟨h_3, e_4, hf⟩ := rb_bd hf
  refine rb_hputF C ff_X8_13_X8 hnm e_4 rfl rfl dX8_init_11 ?_
  cases hf
  exact rb_vret C rfl hb.e.2.1 hb.e.2.2 dX8_init_14 ⟨rfl, rfl, hb.e.1⟩
def f_X7_core (Ev : rb_E) (open_ : AH → Nat → Nat → Int32 → Option (Nat × AH × Nat × Nat)) (h : AH) (n : Nat) (o : Nat) : Option (Nat × AH × Nat × Nat) := ((hp_i Ev h o 5 2).bind fun v_1 => ((hp_k Ev h o 5).bind fun u_3 => ((f_X7_take Ev h n o).bind fun (r_6, h_7, k_8, s_9) => (ad k_8 s_9 (if r_6 = 126 then (ad 1 2 (rb_lt (va_up h_7 (n + k_8) (some (.inr (6, [.int 0, .null])))) fun h_60 => ((hp_p Ev h_60 o 5 0).bind fun v_61 => ((hp_k Ev h_60 v_61 1).bind fun u_63 => ((f_X2_colourOf Ev h_60 ((n + k_8) + 1) v_61 126).bind fun (r_66, h_67, k_68, s_69) => (ad k_68 s_69 (match r_66 with | .inl v_75 => ((hp_k Ev h_67 o 5).bind fun u_78 => ((open_ h_67 (((n + k_8) + 1) + k_68) o (v_75 + 1)).bind fun (r_81, h_82, k_83, s_84) => (ad k_83 s_84 ((f_X8_init Ev h_82 ((((n + k_8) + 1) + k_68) + k_83) (n + k_8) v_1 r_81).bind fun (r_91, h_92, k_93, s_94) => (ad k_93 s_94 (some ((n + k_8), h_92, 0, 0))))))) | .inr (E_76, q_77) => (if E_76 = "java/lang/IllegalArgumentException" then none else none)))))))) else (if r_6 = 40 then ((hp_k Ev h_7 o 5).bind fun u_17 => ((open_ h_7 (n + k_8) o 0).bind fun (r_20, h_21, k_22, s_23) => (ad k_22 s_23 ((hp_k Ev h_21 o 5).bind fun u_29 => ((f_X7_take Ev h_21 ((n + k_8) + k_22) o).bind fun (r_32, h_33, k_34, s_35) => (ad k_34 s_35 (some (r_20, h_33, 0, 0)))))))) else (ad 1 2 (rb_lt (va_up h_7 (n + k_8) (some (.inr (7, [.int 0, .int 0])))) fun h_45 => ((f_X9_init Ev h_45 ((n + k_8) + 1) (n + k_8) v_1 r_6).bind fun (r_47, h_48, k_49, s_50) => (ad k_49 s_50 (some ((n + k_8), h_48, 0, 0))))))))))))
abbrev rm_X7_core (d : Nat) (k s : Nat) : Room := { frames := 13 + 2 * d, cells := k, slots := s, locals := 440 + 80 * d }
set_option maxHeartbeats 4000000 in
theorem ct_X7_core (Ev : rb_E) (d : Nat) (self_p : AH → Nat → Nat → Int32 → Option (Nat × AH × Nat × Nat)) (hself : ∀ (h : AH) (n : Nat) (o : Nat) (x1 : Int32) (r : Nat) (h' : AH) (k s : Nat), self_p h n o x1 = some (r, h', k, s) → Ct Ev yX7_part (ws_ yX7_part cX7_part 6 (some (.object "RainbowOperators$Part"))) { frames := 12 + 2 * d, cells := k, slots := s, locals := 400 + 80 * d } [.ref o, .int x1] h n (pX (.inl (some (.ref r))) h' (n + k))) (h : AH) (n : Nat) (o : Nat) (r : Nat) (h' : AH) (k s : Nat) (hf : f_X7_core Ev self_p h n o = some (r, h', k, s)) : Ct Ev yX7_core (ws_ yX7_core cX7_core 5 (some (.object "RainbowOperators$Part"))) (rm_X7_core d k s) [.ref o] h n (pX (.inl (some (.ref r))) h' (n + k)) := by
  rw [f_X7_core] at hf
  refine Ct.of rfl (Nat.le_of_ble_eq_true rfl) fun X C hnm => ?_
  have C : Cx Ev X RX7 cX7_core 5 (some (.object "RainbowOperators$Part")) [] := C
  show Wa Ev X (rm_X7_core d k s) 5 h n 0 0 (rb_MQ Ev X (rm_X7_core d k s) (pX (.inl (some (.ref r))) h' (n + k))) 0 [(0, .ref o)] []
  have hb : Bd (n + k) k s n 0 0 k s := ⟨rfl, Nat.le_of_eq (Nat.zero_add _), Nat.le_of_eq (Nat.zero_add _)⟩
  refine rb_aload_n C dX7_core_0 rfl 0 rfl ?_
  obtain ⟨v_1, e_2, hf⟩ := rb_bd hf
  refine rb_hI C fl_X7_17_X7 e_2 dX7_core_1 ?_
  refine rb_istore_n (lv' := [(1, .int v_1), (0, .ref o)]) C dX7_core_4 rfl (by decide) rfl ?_
  refine rb_aload_n C dX7_core_5 rfl 1 rfl ?_
  obtain ⟨u_3, e_4, hf⟩ := rb_bd hf
  obtain ⟨⟨r_6, h_7, k_8, s_9⟩, e_10, hf⟩ := rb_bd hf
  obtain ⟨a_13, b_14, hf, ea_11, eb_12⟩ := ad_at hf
  refine rb_callV (As := []) (rest := []) C mi_X7_take sv_X7_27 (hp_k_isC C.pf e_4 ck_X7) (ct_X7_take Ev h n o r_6 _ _ _ e_10) rfl rfl (Nat.le_of_ble_eq_true rfl) ⟨by show 5 + 1 ≤ 13 + 2 * d; omega, by show 8 + (1 + 11) + 106 ≤ 440 + 80 * d; omega, Bd.c1 hb ea_11, Bd.s1 hb eb_12⟩ dX7_core_6 rb_xXi (rb_kXi fun hn_5 => (rb_w (kc := (0 + k_8)) (ks := (0 + s_9)) rfl rfl ?_))
  have hb := Bd.ade hb ea_11 eb_12
  refine rb_istore_n (lv' := [(2, .int r_6), (1, .int v_1), (0, .ref o)]) C dX7_core_9 rfl (by decide) rfl ?_
  refine rb_iload_n C dX7_core_10 rfl 0 rfl ?_
  refine rb_bipush (v := 126) C dX7_core_11 rfl ?_
  refine rb_icmp_ne (tgt := 40) C dX7_core_13 (by decide) (fun c_15 => ?_) (fun c_15 => ?_)
  · have hf := (if_neg c_15).symm.trans hf
    refine rb_iload_n C dX7_core_40 rfl 0 rfl ?_
    refine rb_bipush (v := 40) C dX7_core_41 rfl ?_
    refine rb_icmp_eq (tgt := 56) C dX7_core_43 (by decide) (fun c_16 => ?_) (fun c_16 => ?_)
    · have hf := (if_pos c_16).symm.trans hf
      refine rb_aload_n C dX7_core_56 rfl 2 rfl ?_
      refine rb_iconst (v := 0) C dX7_core_57 rfl ?_
      obtain ⟨u_17, e_18, hf⟩ := rb_bd hf
      obtain ⟨⟨r_20, h_21, k_22, s_23⟩, e_24, hf⟩ := rb_bd hf
      obtain ⟨a_27, b_28, hf, ea_25, eb_26⟩ := ad_at hf
      refine rb_callV (As := [.int 0]) (rest := []) C mi_X7_part sv_X7_39 (hp_k_isC C.pf e_18 ck_X7) (hself h_7 (n + k_8) o 0 r_20 _ _ _ e_24) rfl rfl (Nat.le_of_ble_eq_true rfl) ⟨by show (12 + 2 * d) + 1 ≤ 13 + 2 * d; omega, by show 8 + (6 + 11) + (400 + 80 * d) ≤ 440 + 80 * d; omega, Bd.c1 hb ea_25, Bd.s1 hb eb_26⟩ dX7_core_58 rb_xX (rb_kX (rb_w (kc := ((0 + k_8) + k_22)) (ks := ((0 + s_9) + s_23)) rfl rfl ?_))
      have hb := Bd.ade hb ea_25 eb_26
      refine rb_astore_n (lv' := [(3, .ref r_20), (2, .int r_6), (1, .int v_1), (0, .ref o)]) C dX7_core_61 rfl (by decide) rfl ?_
      refine rb_aload_n C dX7_core_62 rfl 3 rfl ?_
      obtain ⟨u_29, e_30, hf⟩ := rb_bd hf
      obtain ⟨⟨r_32, h_33, k_34, s_35⟩, e_36, hf⟩ := rb_bd hf
      obtain ⟨a_39, b_40, hf, ea_37, eb_38⟩ := ad_at hf
      refine rb_callV (As := []) (rest := []) C mi_X7_take sv_X7_27 (hp_k_isC C.pf e_30 ck_X7) (ct_X7_take Ev h_21 ((n + k_8) + k_22) o r_32 _ _ _ e_36) rfl rfl (Nat.le_of_ble_eq_true rfl) ⟨by show 5 + 1 ≤ 13 + 2 * d; omega, by show 8 + (1 + 11) + 106 ≤ 440 + 80 * d; omega, Bd.c1 hb ea_37, Bd.s1 hb eb_38⟩ dX7_core_63 rb_xXi (rb_kXi fun hn_31 => (rb_w (kc := (((0 + k_8) + k_22) + k_34)) (ks := (((0 + s_9) + s_23) + s_35)) rfl rfl ?_))
      have hb := Bd.ade hb ea_37 eb_38
      refine rb_istore (lv' := [(4, .int r_32), (3, .ref r_20), (2, .int r_6), (1, .int v_1), (0, .ref o)]) C dX7_core_66 (by decide) rfl ?_
      refine rb_aload_n C dX7_core_68 rfl 1 rfl ?_
      cases hf
      exact rb_aret C rfl (Or.inl ⟨_, rfl⟩) (Or.inr ⟨_, rfl⟩) hb.e.2.1 hb.e.2.2 dX7_core_69 ⟨rfl, rfl, hb.e.1⟩
    · have hf := (if_neg c_16).symm.trans hf
      obtain ⟨a_43, b_44, hf, ea_41, eb_42⟩ := ad_at hf
      refine rb_hnew C ck_X9 q1114 q1115 q100 [.int 0, .int 0] rfl (Bd.c1 hb ea_41) (Bd.s1 hb eb_42) dX7_core_46 ?_
      have hb := Bd.ade hb ea_41 eb_42
      obtain ⟨h_45, e_h_45⟩ : ∃ z, z = (va_up h_7 (n + k_8) (some (.inr (7, [.int 0, .int 0])))) := ⟨_, rfl⟩
      rw [← e_h_45]
      have hf := rb_let hf e_h_45
      refine rb_dup C dX7_core_49 rfl ?_
      refine rb_iload_n C dX7_core_50 rfl 1 rfl ?_
      refine rb_iload_n C dX7_core_51 rfl 0 rfl ?_
      obtain ⟨⟨r_47, h_48, k_49, s_50⟩, e_51, hf⟩ := rb_bd hf
      obtain ⟨a_54, b_55, hf, ea_52, eb_53⟩ := ad_at hf
      refine rb_callI (As := [.int v_1, .int r_6]) (rest := [.ref (n + k_8)]) C mi_X9_init si_X7_48 (ct_X9_init Ev h_45 ((n + k_8) + 1) (n + k_8) v_1 r_6 r_47 _ _ _ e_51) rfl rfl (Nat.le_of_ble_eq_true rfl) ⟨by show 1 + 1 ≤ 13 + 2 * d; omega, by show 8 + (3 + 11) + 40 ≤ 440 + 80 * d; omega, Bd.c1 hb ea_52, Bd.s1 hb eb_53⟩ dX7_core_52 rb_xX (rb_kX (rb_w (kc := (((0 + k_8) + 1) + k_49)) (ks := (((0 + s_9) + 2) + s_50)) rfl rfl ?_))
      have hb := Bd.ade hb ea_52 eb_53
      cases hf
      exact rb_aret C rfl (Or.inl ⟨_, rfl⟩) (Or.inr ⟨_, rfl⟩) hb.e.2.1 hb.e.2.2 dX7_core_55 ⟨rfl, rfl, hb.e.1⟩
  · have hf := (if_pos c_15).symm.trans hf
    obtain ⟨a_58, b_59, hf, ea_56, eb_57⟩ := ad_at hf
    refine rb_hnew C ck_X8 q1094 q1095 q99 [.int 0, .null] rfl (Bd.c1 hb ea_56) (Bd.s1 hb eb_57) dX7_core_16 ?_
    have hb := Bd.ade hb ea_56 eb_57
    obtain ⟨h_60, e_h_60⟩ : ∃ z, z = (va_up h_7 (n + k_8) (some (.inr (6, [.int 0, .null])))) := ⟨_, rfl⟩
    rw [← e_h_60]
    have hf := rb_let hf e_h_60
    refine rb_dup C dX7_core_19 rfl ?_
    refine rb_iload_n C dX7_core_20 rfl 1 rfl ?_
    refine rb_aload_n C dX7_core_21 rfl 2 rfl ?_
    refine rb_aload_n C dX7_core_22 rfl 2 rfl ?_
    obtain ⟨v_61, e_62, hf⟩ := rb_bd hf
    refine rb_hP C fl_X7_7_X7 e_62 dX7_core_23 ?_
    refine rb_bipush (v := 126) C dX7_core_26 rfl ?_
    obtain ⟨u_63, e_64, hf⟩ := rb_bd hf
    obtain ⟨⟨r_66, h_67, k_68, s_69⟩, e_70, hf⟩ := rb_bd hf
    obtain ⟨a_73, b_74, hf, ea_71, eb_72⟩ := ad_at hf
    rcases r_66 with v_75 | ⟨E_76, q_77⟩
    · dsimp only at hf
      refine rb_callV (As := [.int 126]) (rest := [.ref o, .int v_1, .ref (n + k_8), .ref (n + k_8)]) C mi_X2_colourOf sv_X7_33 (hp_k_isC C.pf e_64 ck_X2) (ct_X2_colourOf Ev h_60 ((n + k_8) + 1) v_61 126 (.inl v_75) _ _ _ e_70) rfl rfl (Nat.le_of_ble_eq_true rfl) ⟨by show 8 + 1 ≤ 13 + 2 * d; omega, by show 8 + (2 + 11) + 181 ≤ 440 + 80 * d; omega, Bd.c1 hb ea_71, Bd.s1 hb eb_72⟩ dX7_core_28 rb_xX (rb_kX (r := some (.int v_75)) (rb_w (kc := (((0 + k_8) + 1) + k_68)) (ks := (((0 + s_9) + 2) + s_69)) rfl rfl ?_))
      have hb := Bd.ade hb ea_71 eb_72
      refine rb_iconst (v := 1) C dX7_core_31 rfl ?_
      refine rb_iadd C dX7_core_32 ?_
      obtain ⟨u_78, e_79, hf⟩ := rb_bd hf
      obtain ⟨⟨r_81, h_82, k_83, s_84⟩, e_85, hf⟩ := rb_bd hf
      obtain ⟨a_88, b_89, hf, ea_86, eb_87⟩ := ad_at hf
      refine rb_callV (As := [.int (v_75 + 1)]) (rest := [.int v_1, .ref (n + k_8), .ref (n + k_8)]) C mi_X7_part sv_X7_39 (hp_k_isC C.pf e_79 ck_X7) (hself h_67 (((n + k_8) + 1) + k_68) o (v_75 + 1) r_81 _ _ _ e_85) rfl rfl (Nat.le_of_ble_eq_true rfl) ⟨by show (12 + 2 * d) + 1 ≤ 13 + 2 * d; omega, by show 8 + (6 + 11) + (400 + 80 * d) ≤ 440 + 80 * d; omega, Bd.c1 hb ea_86, Bd.s1 hb eb_87⟩ dX7_core_33 rb_xX (rb_kX (rb_w (kc := ((((0 + k_8) + 1) + k_68) + k_83)) (ks := ((((0 + s_9) + 2) + s_69) + s_84)) rfl rfl ?_))
      have hb := Bd.ade hb ea_86 eb_87
      obtain ⟨⟨r_91, h_92, k_93, s_94⟩, e_95, hf⟩ := rb_bd hf
      obtain ⟨a_98, b_99, hf, ea_96, eb_97⟩ := ad_at hf
      refine rb_callI (As := [.int v_1, .ref r_81]) (rest := [.ref (n + k_8)]) C mi_X8_init si_X7_43 (ct_X8_init Ev h_82 ((((n + k_8) + 1) + k_68) + k_83) (n + k_8) v_1 r_81 r_91 _ _ _ e_95) rfl rfl (Nat.le_of_ble_eq_true rfl) ⟨by show 1 + 1 ≤ 13 + 2 * d; omega, by show 8 + (3 + 11) + 40 ≤ 440 + 80 * d; omega, Bd.c1 hb ea_96, Bd.s1 hb eb_97⟩ dX7_core_36 rb_xX (rb_kX (rb_w (kc := (((((0 + k_8) + 1) + k_68) + k_83) + k_93)) (ks := (((((0 + s_9) + 2) + s_69) + s_84) + s_94)) rfl rfl ?_))
      have hb := Bd.ade hb ea_96 eb_97
      cases hf
      exact rb_aret C rfl (Or.inl ⟨_, rfl⟩) (Or.inr ⟨_, rfl⟩) hb.e.2.1 hb.e.2.2 dX7_core_39 ⟨rfl, rfl, hb.e.1⟩
    · dsimp only at hf
      by_cases c_100 : E_76 = "java/lang/IllegalArgumentException"
      · have hf := (if_pos c_100).symm.trans hf
        subst c_100
        refine rb_callV (As := [.int 126]) (rest := [.ref o, .int v_1, .ref (n + k_8), .ref (n + k_8)]) C mi_X2_colourOf sv_X7_33 (hp_k_isC C.pf e_64 ck_X2) (ct_X2_colourOf Ev h_60 ((n + k_8) + 1) v_61 126 (.inr ("java/lang/IllegalArgumentException", q_77)) _ _ _ e_70) rfl rfl (Nat.le_of_ble_eq_true rfl) ⟨by show 8 + 1 ≤ 13 + 2 * d; omega, by show 8 + (2 + 11) + 181 ≤ 440 + 80 * d; omega, Bd.c1 hb ea_71, Bd.s1 hb eb_72⟩ dX7_core_28 (rb_xY (E := "java/lang/IllegalArgumentException") (rb_wX (kc := (((0 + k_8) + 1) + k_68)) (ks := (((0 + s_9) + 2) + s_69)) rfl rfl ?_)) rb_kY
        have hb := Bd.ade hb ea_71 eb_72
        cases hf
      have hf := (if_neg c_100).symm.trans hf
      cases hf
def f_X7_isOperatorFrom_j36_11 (Ev : rb_E) (o : Nat) (x1 : Int32) (h : AH) (n : Nat) (w0_j36_11 : Int32) : Option (Int32 × AH × Nat × Nat) := (if w0_j36_11 = 0 then (some (0, h, 0, 0)) else ((hp_p Ev h o 5 0).bind fun v_13 => ((hp_p Ev h o 5 1).bind fun v_15 => ((hp_i Ev h o 5 2).bind fun v_17 => ((hp_k Ev h v_15 14).bind fun u_19 => ((f_J2_charAt Ev h v_15 v_17).bind fun v_22 => ((hp_k Ev h v_13 1).bind fun u_24 => ((f_X2_colourOf Ev h n v_13 v_22).bind fun (r_27, h_28, k_29, s_30) => (ad k_29 s_30 (match r_27 with | .inl v_36 => (if v_36 < x1 then (some (0, h_28, 0, 0)) else (some (1, h_28, 0, 0))) | .inr (E_37, q_38) => (if E_37 = "java/lang/IllegalArgumentException" then none else none)))))))))))
def f_X7_isOperatorFrom (Ev : rb_E) (h : AH) (n : Nat) (o : Nat) (x1 : Int32) : Option (Int32 × AH × Nat × Nat) := ((hp_i Ev h o 5 2).bind fun v_1 => ((hp_p Ev h o 5 1).bind fun v_3 => ((hp_k Ev h v_3 14).bind fun u_5 => ((f_J2_length Ev h v_3).bind fun v_8 => (if v_8 ≤ v_1 then (f_X7_isOperatorFrom_j36_11 Ev o x1 h n 0) else ((hp_p Ev h o 5 1).bind fun v_41 => ((hp_i Ev h o 5 2).bind fun v_43 => ((hp_k Ev h v_41 14).bind fun u_45 => ((f_J2_charAt Ev h v_41 v_43).bind fun v_48 => ((f_X1_isOperator Ev h v_48).bind fun v_51 => (if v_51 = 0 then (f_X7_isOperatorFrom_j36_11 Ev o x1 h n 0) else (f_X7_isOperatorFrom_j36_11 Ev o x1 h n 1))))))))))))
abbrev rm_X7_isOperatorFrom (k s : Nat) : Room := { frames := 9, cells := k, slots := s, locals := 202 }
set_option maxHeartbeats 4000000 in
theorem ct_X7_isOperatorFrom (Ev : rb_E) (h : AH) (n : Nat) (o : Nat) (x1 : Int32) (r : Int32) (h' : AH) (k s : Nat) (hf : f_X7_isOperatorFrom Ev h n o x1 = some (r, h', k, s)) : Ct Ev yX7_isOperatorFrom (ws_ yX7_isOperatorFrom cX7_isOperatorFrom 3 (some .boolean)) (rm_X7_isOperatorFrom k s) [.ref o, .int x1] h n (pXi .boolean r h' (n + k)) := by
  rw [f_X7_isOperatorFrom] at hf
  refine Ct.of rfl (Nat.le_of_ble_eq_true rfl) fun X C hnm => ?_
  have C : Cx Ev X RX7 cX7_isOperatorFrom 3 (some .boolean) [] := C
  show Wa Ev X (rm_X7_isOperatorFrom k s) 3 h n 0 0 (rb_MQ Ev X (rm_X7_isOperatorFrom k s) (pXi .boolean r h' (n + k))) 0 [(0, .ref o), (1, .int x1)] []
  have hb : Bd (n + k) k s n 0 0 k s := ⟨rfl, Nat.le_of_eq (Nat.zero_add _), Nat.le_of_eq (Nat.zero_add _)⟩
  refine rb_aload_n C dX7_isOperatorFrom_0 rfl 0 rfl ?_
  obtain ⟨v_1, e_2, hf⟩ := rb_bd hf
  refine rb_hI C fl_X7_17_X7 e_2 dX7_isOperatorFrom_1 ?_
  refine rb_aload_n C dX7_isOperatorFrom_4 rfl 0 rfl ?_
  obtain ⟨v_3, e_4, hf⟩ := rb_bd hf
  refine rb_hP C fl_X7_13_X7 e_4 dX7_isOperatorFrom_5 ?_
  obtain ⟨u_5, e_6, hf⟩ := rb_bd hf
  obtain ⟨v_8, e_9, hf⟩ := rb_bd hf
  refine rb_callV (As := []) (rest := [.int v_1]) C mi_J2_length sv_X7_51 (hp_k_isC C.pf e_6 ck_J2) (ct_J2_length Ev h n v_3 _ e_9) rfl rfl (Nat.le_of_ble_eq_true rfl) ⟨Nat.le_of_ble_eq_true rfl, Nat.le_of_ble_eq_true rfl, hb.c0, hb.s0⟩ dX7_isOperatorFrom_8 rb_xXi (rb_kXi fun hn_7 => (rb_w (kc := 0) (ks := 0) rfl rfl ?_))
  have J_j36_11 : ∀ (w0_j36_11 : Int32) (kc_j36_11 ks_j36_11 a_ b_ : Nat), f_X7_isOperatorFrom_j36_11 Ev o x1 h n w0_j36_11 = some (r, h', a_, b_) → Bd (n + k) k s n kc_j36_11 ks_j36_11 a_ b_ → Wa Ev X (rm_X7_isOperatorFrom k s) 3 h n kc_j36_11 ks_j36_11 (rb_MQ Ev X (rm_X7_isOperatorFrom k s) (pXi .boolean r h' (n + k))) 36 [(0, .ref o), (1, .int x1)] [.int w0_j36_11] := by
    intro w0_j36_11 kc_j36_11 ks_j36_11 a_ b_ hf hb
    rw [f_X7_isOperatorFrom_j36_11] at hf
    refine rb_istore_n (lv' := [(2, .int w0_j36_11), (0, .ref o), (1, .int x1)]) C dX7_isOperatorFrom_36 rfl (by decide) rfl ?_
    refine rb_iload_n C dX7_isOperatorFrom_37 rfl 0 rfl ?_
    refine rb_if_eq (tgt := 67) C dX7_isOperatorFrom_38 (by decide) (fun c_12 => ?_) (fun c_12 => ?_)
    · have hf := (if_pos c_12).symm.trans hf
      refine rb_iconst (v := 0) C dX7_isOperatorFrom_67 rfl ?_
      cases hf
      exact rb_iret C rfl rfl hb.e.2.1 hb.e.2.2 dX7_isOperatorFrom_68 ⟨rfl, rfl, hb.e.1, rfl⟩
    · have hf := (if_neg c_12).symm.trans hf
      refine rb_aload_n C dX7_isOperatorFrom_41 rfl 1 rfl ?_
      obtain ⟨v_13, e_14, hf⟩ := rb_bd hf
      refine rb_hP C fl_X7_7_X7 e_14 dX7_isOperatorFrom_42 ?_
      refine rb_aload_n C dX7_isOperatorFrom_45 rfl 1 rfl ?_
      obtain ⟨v_15, e_16, hf⟩ := rb_bd hf
      refine rb_hP C fl_X7_13_X7 e_16 dX7_isOperatorFrom_46 ?_
      refine rb_aload_n C dX7_isOperatorFrom_49 rfl 1 rfl ?_
      obtain ⟨v_17, e_18, hf⟩ := rb_bd hf
      refine rb_hI C fl_X7_17_X7 e_18 dX7_isOperatorFrom_50 ?_
      obtain ⟨u_19, e_20, hf⟩ := rb_bd hf
      obtain ⟨v_22, e_23, hf⟩ := rb_bd hf
      refine rb_callV (As := [.int v_17]) (rest := [.ref v_13]) C mi_J2_charAt sv_X7_21 (hp_k_isC C.pf e_20 ck_J2) (ct_J2_charAt Ev h n v_15 v_17 _ e_23) rfl rfl (Nat.le_of_ble_eq_true rfl) ⟨Nat.le_of_ble_eq_true rfl, Nat.le_of_ble_eq_true rfl, hb.c0, hb.s0⟩ dX7_isOperatorFrom_53 rb_xXi (rb_kXi fun hn_21 => (rb_w (kc := kc_j36_11) (ks := ks_j36_11) rfl rfl ?_))
      obtain ⟨u_24, e_25, hf⟩ := rb_bd hf
      obtain ⟨⟨r_27, h_28, k_29, s_30⟩, e_31, hf⟩ := rb_bd hf
      obtain ⟨a_34, b_35, hf, ea_32, eb_33⟩ := ad_at hf
      rcases r_27 with v_36 | ⟨E_37, q_38⟩
      · dsimp only at hf
        refine rb_callV (As := [.int v_22]) (rest := []) C mi_X2_colourOf sv_X7_33 (hp_k_isC C.pf e_25 ck_X2) (ct_X2_colourOf Ev h n v_13 v_22 (.inl v_36) _ _ _ e_31) rfl rfl (Nat.le_of_ble_eq_true rfl) ⟨Nat.le_of_ble_eq_true rfl, Nat.le_of_ble_eq_true rfl, Bd.c1 hb ea_32, Bd.s1 hb eb_33⟩ dX7_isOperatorFrom_56 rb_xX (rb_kX (r := some (.int v_36)) (rb_w (kc := (kc_j36_11 + k_29)) (ks := (ks_j36_11 + s_30)) rfl rfl ?_))
        have hb := Bd.ade hb ea_32 eb_33
        refine rb_iload_n C dX7_isOperatorFrom_59 rfl 2 rfl ?_
        refine rb_icmp_lt (tgt := 67) C dX7_isOperatorFrom_60 (by decide) (fun c_39 => ?_) (fun c_39 => ?_)
        · have hf := (if_pos c_39).symm.trans hf
          refine rb_iconst (v := 0) C dX7_isOperatorFrom_67 rfl ?_
          cases hf
          exact rb_iret C rfl rfl hb.e.2.1 hb.e.2.2 dX7_isOperatorFrom_68 ⟨rfl, rfl, hb.e.1, rfl⟩
        · have hf := (if_neg c_39).symm.trans hf
          refine rb_iconst (v := 1) C dX7_isOperatorFrom_63 rfl ?_
          refine rb_goto (tgt := 68) C dX7_isOperatorFrom_64 (by decide) ?_
          cases hf
          exact rb_iret C rfl rfl hb.e.2.1 hb.e.2.2 dX7_isOperatorFrom_68 ⟨rfl, rfl, hb.e.1, rfl⟩
      · dsimp only at hf
        by_cases c_40 : E_37 = "java/lang/IllegalArgumentException"
        · have hf := (if_pos c_40).symm.trans hf
          subst c_40
          refine rb_callV (As := [.int v_22]) (rest := []) C mi_X2_colourOf sv_X7_33 (hp_k_isC C.pf e_25 ck_X2) (ct_X2_colourOf Ev h n v_13 v_22 (.inr ("java/lang/IllegalArgumentException", q_38)) _ _ _ e_31) rfl rfl (Nat.le_of_ble_eq_true rfl) ⟨Nat.le_of_ble_eq_true rfl, Nat.le_of_ble_eq_true rfl, Bd.c1 hb ea_32, Bd.s1 hb eb_33⟩ dX7_isOperatorFrom_56 (rb_xY (E := "java/lang/IllegalArgumentException") (rb_wX (kc := (kc_j36_11 + k_29)) (ks := (ks_j36_11 + s_30)) rfl rfl ?_)) rb_kY
          have hb := Bd.ade hb ea_32 eb_33
          cases hf
        have hf := (if_neg c_40).symm.trans hf
        cases hf
  refine rb_icmp_ge (tgt := 35) C dX7_isOperatorFrom_11 (by decide) (fun c_10 => ?_) (fun c_10 => ?_)
  · have hf := (if_pos c_10).symm.trans hf
    refine rb_iconst (v := 0) C dX7_isOperatorFrom_35 rfl ?_
    exact J_j36_11 0  _ _ _ _ hf hb
  · have hf := (if_neg c_10).symm.trans hf
    refine rb_aload_n C dX7_isOperatorFrom_14 rfl 0 rfl ?_
    obtain ⟨v_41, e_42, hf⟩ := rb_bd hf
    refine rb_hP C fl_X7_13_X7 e_42 dX7_isOperatorFrom_15 ?_
    refine rb_aload_n C dX7_isOperatorFrom_18 rfl 0 rfl ?_
    obtain ⟨v_43, e_44, hf⟩ := rb_bd hf
    refine rb_hI C fl_X7_17_X7 e_44 dX7_isOperatorFrom_19 ?_
    obtain ⟨u_45, e_46, hf⟩ := rb_bd hf
    obtain ⟨v_48, e_49, hf⟩ := rb_bd hf
    refine rb_callV (As := [.int v_43]) (rest := []) C mi_J2_charAt sv_X7_21 (hp_k_isC C.pf e_46 ck_J2) (ct_J2_charAt Ev h n v_41 v_43 _ e_49) rfl rfl (Nat.le_of_ble_eq_true rfl) ⟨Nat.le_of_ble_eq_true rfl, Nat.le_of_ble_eq_true rfl, hb.c0, hb.s0⟩ dX7_isOperatorFrom_22 rb_xXi (rb_kXi fun hn_47 => (rb_w (kc := 0) (ks := 0) rfl rfl ?_))
    obtain ⟨v_51, e_52, hf⟩ := rb_bd hf
    refine rb_callSN (As := [.int v_48]) (rest := []) C mi_X1_isOperator ss_X7_55 (ct_X1_isOperator Ev h n v_48 _ e_52) rfl rfl (Nat.le_of_ble_eq_true rfl) ⟨Nat.le_of_ble_eq_true rfl, Nat.le_of_ble_eq_true rfl, hb.c0, hb.s0⟩ dX7_isOperatorFrom_25 rb_xXi (rb_kXi fun hn_50 => (rb_w (kc := 0) (ks := 0) rfl rfl ?_))
    refine rb_if_eq (tgt := 35) C dX7_isOperatorFrom_28 (by decide) (fun c_53 => ?_) (fun c_53 => ?_)
    · have hf := (if_pos c_53).symm.trans hf
      refine rb_iconst (v := 0) C dX7_isOperatorFrom_35 rfl ?_
      exact J_j36_11 0  _ _ _ _ hf hb
    · have hf := (if_neg c_53).symm.trans hf
      refine rb_iconst (v := 1) C dX7_isOperatorFrom_31 rfl ?_
      refine rb_goto (tgt := 36) C dX7_isOperatorFrom_32 (by decide) ?_
      exact J_j36_11 1  _ _ _ _ hf hb
def f_X10_init (Ev : rb_E) (h : AH) (n : Nat) (o : Nat) (x1 : Int32) (x2 : Int32) (x3 : Nat) (x4 : Nat) : Option (Unit × AH × Nat × Nat) := ((hp_put h o 8 0 (.int x1)).bind fun h_1 => (if narrow .char (.int x2) = .int x2 ∧ fits .char (.int x2) = true then ((hp_put h_1 o 8 1 (.int x2)).bind fun h_4 => ((hp_put h_4 o 8 2 (.ref x3)).bind fun h_6 => ((hp_put h_6 o 8 3 (.ref x4)).bind fun h_8 => (some ((), h_8, 0, 0))))) else none))
abbrev rm_X10_init (k s : Nat) : Room := { frames := 1, cells := k, slots := s, locals := 40 }
set_option maxHeartbeats 4000000 in
theorem ct_X10_init (Ev : rb_E) (h : AH) (n : Nat) (o : Nat) (x1 : Int32) (x2 : Int32) (x3 : Nat) (x4 : Nat) (r : Unit) (h' : AH) (k s : Nat) (hf : f_X10_init Ev h n o x1 x2 x3 x4 = some (r, h', k, s)) : Ct Ev yX10_init (ws_ yX10_init cX10_init 5 none) (rm_X10_init k s) [.ref o, .int x1, .int x2, .ref x3, .ref x4] h n (pX (.inl (none)) h' (n + k)) := by
  rw [f_X10_init] at hf
  refine Ct.of rfl (Nat.le_of_ble_eq_true rfl) fun X C hnm => ?_
  have C : Cx Ev X RX10 cX10_init 5 none [] := C
  show Wa Ev X (rm_X10_init k s) 5 h n 0 0 (rb_MQ Ev X (rm_X10_init k s) (pX (.inl (none)) h' (n + k))) 0 [(0, .ref o), (1, .int x1), (2, .int x2), (3, .ref x3), (4, .ref x4)] []
  have hb : Bd (n + k) k s n 0 0 k s := ⟨rfl, Nat.le_of_eq (Nat.zero_add _), Nat.le_of_eq (Nat.zero_add _)⟩
  refine rb_aload_n C dX10_init_0 rfl 0 rfl ?_
  refine rb_objInit C q1140 q123 q124 dX10_init_1 (Nat.le_of_ble_eq_true rfl) (Nat.le_of_ble_eq_true rfl) ?_
  refine rb_aload_n C dX10_init_4 rfl 0 rfl ?_
  refine rb_iload_n C dX10_init_5 rfl 1 rfl ?_
  obtain ⟨h_1, e_2, hf⟩ := rb_bd hf
  refine rb_hputF C ff_X10_7_X10 hnm e_2 rfl rfl dX10_init_6 ?_
  refine rb_aload_n C dX10_init_9 rfl 0 rfl ?_
  refine rb_iload_n C dX10_init_10 rfl 2 rfl ?_
  by_cases c_g_3 : narrow .char (.int x2) = .int x2 ∧ fits .char (.int x2) = true
  rotate_left
  · exact absurd ((if_neg c_g_3).symm.trans hf) (fun z => by cases z)
  have hf := (if_pos c_g_3).symm.trans hf
  obtain ⟨h_4, e_5, hf⟩ := rb_bd hf
  refine rb_hputF C ff_X10_13_X10 hnm e_5 c_g_3.1 c_g_3.2 dX10_init_11 ?_
  refine rb_aload_n C dX10_init_14 rfl 0 rfl ?_
  refine rb_aload_n C dX10_init_15 rfl 3 rfl ?_
  obtain ⟨h_6, e_7, hf⟩ := rb_bd hf
  refine rb_hputF C ff_X10_17_X10 hnm e_7 rfl rfl dX10_init_16 ?_
  refine rb_aload_n C dX10_init_19 rfl 0 rfl ?_
  refine rb_aload C dX10_init_20 4 rfl ?_
  obtain ⟨h_8, e_9, hf⟩ := rb_bd hf
  refine rb_hputF C ff_X10_21_X10 hnm e_9 rfl rfl dX10_init_22 ?_
  cases hf
  exact rb_vret C rfl hb.e.2.1 hb.e.2.2 dX10_init_25 ⟨rfl, rfl, hb.e.1⟩
def f_X7_part_j66_70 (Ev : rb_E) (o : Nat) (self_ : AH → Nat → Nat → Int32 → Option (Nat × AH × Nat × Nat)) (y2_l5_13 : Nat) (n_l5_13 : Nat) (rec_l5_13 : Nat → AH → Nat → Option (Nat × AH × Nat × Nat)) (k_19 : Nat) (v_27 : Int32) (k_34 : Nat) (r_32 : Int32) (k_48 : Nat) (h_62 : AH) (w0_j66_70 : Int32) : Option (Nat × AH × Nat × Nat) := ((hp_k Ev h_62 o 5).bind fun u_71 => ((self_ h_62 ((((n_l5_13 + k_19) + k_34) + k_48) + 1) o w0_j66_70).bind fun (r_74, h_75, k_76, s_77) => (ad k_76 s_77 ((f_X10_init Ev h_75 (((((n_l5_13 + k_19) + k_34) + k_48) + 1) + k_76) (((n_l5_13 + k_19) + k_34) + k_48) v_27 r_32 y2_l5_13 r_74).bind fun (r_84, h_85, k_86, s_87) => (ad k_86 s_87 (rec_l5_13 (((n_l5_13 + k_19) + k_34) + k_48) h_85 ((((((n_l5_13 + k_19) + k_34) + k_48) + 1) + k_76) + k_86)))))))
def f_X7_part_l5_13 (Ev : rb_E) (o : Nat) (x1 : Int32) (self_ : AH → Nat → Nat → Int32 → Option (Nat × AH × Nat × Nat)) : Nat → Nat → AH → Nat → Option (Nat × AH × Nat × Nat)
  | 0, _, _, _ => none
  | k_l5_13 + 1, y2_l5_13, h_l5_13, n_l5_13 => ((hp_k Ev h_l5_13 o 5).bind fun u_14 => ((f_X7_isOperatorFrom Ev h_l5_13 n_l5_13 o x1).bind fun (r_17, h_18, k_19, s_20) => (ad k_19 s_20 (if r_17 = 0 then (some (y2_l5_13, h_18, 0, 0)) else ((hp_i Ev h_18 o 5 2).bind fun v_27 => ((hp_k Ev h_18 o 5).bind fun u_29 => ((f_X7_take Ev h_18 (n_l5_13 + k_19) o).bind fun (r_32, h_33, k_34, s_35) => (ad k_34 s_35 ((hp_p Ev h_33 o 5 0).bind fun v_41 => ((hp_k Ev h_33 v_41 1).bind fun u_43 => ((f_X2_colourOf Ev h_33 ((n_l5_13 + k_19) + k_34) v_41 r_32).bind fun (r_46, h_47, k_48, s_49) => (ad k_48 s_49 (match r_46 with | .inl v_55 => (ad 1 4 (rb_lt (va_up h_47 (((n_l5_13 + k_19) + k_34) + k_48) (some (.inr (8, [.int 0, .int 0, .null, .null])))) fun h_62 => ((hp_p Ev h_62 o 5 0).bind fun v_63 => ((hp_p Ev h_62 v_63 1 3).bind fun v_65 => ((hp_zl Ev h_62 v_65 v_55).bind fun v_67 => (if v_67 = 0 then (f_X7_part_j66_70 Ev o self_ y2_l5_13 n_l5_13 (f_X7_part_l5_13 Ev o x1 self_ k_l5_13) k_19 v_27 k_34 r_32 k_48 h_62 (v_55 + 1)) else (f_X7_part_j66_70 Ev o self_ y2_l5_13 n_l5_13 (f_X7_part_l5_13 Ev o x1 self_ k_l5_13) k_19 v_27 k_34 r_32 k_48 h_62 v_55))))))) | .inr (E_56, q_57) => (if E_56 = "java/lang/IllegalArgumentException" then none else none))))))))))))))
def f_X7_part (Ev : rb_E) : Nat → AH → Nat → Nat → Int32 → Option (Nat × AH × Nat × Nat)
  | 0, _, _, _, _ => none
  | d + 1, h, n, o, x1 => ((hp_k Ev h o 5).bind fun u_1 => ((f_X7_core Ev (f_X7_part Ev d) h n o).bind fun (r_4, h_5, k_6, s_7) => (ad k_6 s_7 (f_X7_part_l5_13 Ev o x1 (f_X7_part Ev d) 4096 r_4 h_5 (n + k_6)))))
abbrev rm_X7_part (d : Nat) (k s : Nat) : Room := { frames := 12 + 2 * d, cells := k, slots := s, locals := 400 + 80 * d }
set_option maxHeartbeats 4000000 in
theorem ct_X7_part (Ev : rb_E) (h : AH) (n : Nat) (d : Nat) (o : Nat) (x1 : Int32) (r : Nat) (h' : AH) (k s : Nat) (hf : f_X7_part Ev d h n o x1 = some (r, h', k, s)) : Ct Ev yX7_part (ws_ yX7_part cX7_part 6 (some (.object "RainbowOperators$Part"))) (rm_X7_part d k s) [.ref o, .int x1] h n (pX (.inl (some (.ref r))) h' (n + k)) := by
  induction d generalizing h n o x1 r h' k s with
  | zero => cases hf
  | succ d ih =>
    rw [f_X7_part] at hf
    refine Ct.of rfl (Nat.le_of_ble_eq_true rfl) fun X C hnm => ?_
    have C : Cx Ev X RX7 cX7_part 6 (some (.object "RainbowOperators$Part")) [] := C
    show Wa Ev X (rm_X7_part (d + 1) k s) 6 h n 0 0 (rb_MQ Ev X (rm_X7_part (d + 1) k s) (pX (.inl (some (.ref r))) h' (n + k))) 0 [(0, .ref o), (1, .int x1)] []
    have hb : Bd (n + k) k s n 0 0 k s := ⟨rfl, Nat.le_of_eq (Nat.zero_add _), Nat.le_of_eq (Nat.zero_add _)⟩
    refine rb_aload_n C dX7_part_0 rfl 0 rfl ?_
    obtain ⟨u_1, e_2, hf⟩ := rb_bd hf
    obtain ⟨⟨r_4, h_5, k_6, s_7⟩, e_8, hf⟩ := rb_bd hf
    obtain ⟨a_11, b_12, hf, ea_9, eb_10⟩ := ad_at hf
    refine rb_callV (As := []) (rest := []) C mi_X7_core sv_X7_61 (hp_k_isC C.pf e_2 ck_X7) (ct_X7_core Ev d (f_X7_part Ev d) ih h n o r_4 _ _ _ e_8) rfl rfl (Nat.le_of_ble_eq_true rfl) ⟨by show (13 + 2 * d) + 1 ≤ 12 + 2 * (d + 1); omega, by show 8 + (5 + 11) + (440 + 80 * d) ≤ 400 + 80 * (d + 1); omega, Bd.c1 hb ea_9, Bd.s1 hb eb_10⟩ dX7_part_1 rb_xX (rb_kX (rb_w (kc := (0 + k_6)) (ks := (0 + s_7)) rfl rfl ?_))
    have hb := Bd.ade hb ea_9 eb_10
    refine rb_astore_n (lv' := [(2, .ref r_4), (0, .ref o), (1, .int x1)]) C dX7_part_4 rfl (by decide) rfl ?_
    have L_l5_13 : ∀ (k_l5_13 : Nat) (y2_l5_13 : Nat) (h_l5_13 : AH) (n_l5_13 kc_l5_13 ks_l5_13 a_ b_ : Nat), f_X7_part_l5_13 Ev o x1 (f_X7_part Ev d) k_l5_13 y2_l5_13 h_l5_13 n_l5_13 = some (r, h', a_, b_) → Bd (n + k) k s n_l5_13 kc_l5_13 ks_l5_13 a_ b_ → Wa Ev X (rm_X7_part (d + 1) k s) 6 h_l5_13 n_l5_13 kc_l5_13 ks_l5_13 (rb_MQ Ev X (rm_X7_part (d + 1) k s) (pX (.inl (some (.ref r))) h' (n + k))) 5 [(0, .ref o), (1, .int x1), (2, .ref y2_l5_13)] [] := by
      intro k_l5_13
      induction k_l5_13 with
      | zero => intro y2_l5_13 h_l5_13 n_l5_13 kc_l5_13 ks_l5_13 a_ b_ hf hb; cases hf
      | succ k_l5_13 ih_l5_13 =>
        intro y2_l5_13 h_l5_13 n_l5_13 kc_l5_13 ks_l5_13 a_ b_ hf hb
        rw [f_X7_part_l5_13] at hf
        refine rb_aload_n C dX7_part_5 rfl 0 rfl ?_
        refine rb_iload_n C dX7_part_6 rfl 1 rfl ?_
        obtain ⟨u_14, e_15, hf⟩ := rb_bd hf
        obtain ⟨⟨r_17, h_18, k_19, s_20⟩, e_21, hf⟩ := rb_bd hf
        obtain ⟨a_24, b_25, hf, ea_22, eb_23⟩ := ad_at hf
        refine rb_callV (As := [.int x1]) (rest := []) C mi_X7_isOperatorFrom sv_X7_65 (hp_k_isC C.pf e_15 ck_X7) (ct_X7_isOperatorFrom Ev h_l5_13 n_l5_13 o x1 r_17 _ _ _ e_21) rfl rfl (Nat.le_of_ble_eq_true rfl) ⟨by show 9 + 1 ≤ 12 + 2 * (d + 1); omega, by show 8 + (3 + 11) + 202 ≤ 400 + 80 * (d + 1); omega, Bd.c1 hb ea_22, Bd.s1 hb eb_23⟩ dX7_part_7 rb_xXi (rb_kXi fun hn_16 => (rb_w (kc := (kc_l5_13 + k_19)) (ks := (ks_l5_13 + s_20)) rfl rfl ?_))
        have hb := Bd.ade hb ea_22 eb_23
        refine rb_if_eq (tgt := 76) C dX7_part_10 (by decide) (fun c_26 => ?_) (fun c_26 => ?_)
        · have hf := (if_pos c_26).symm.trans hf
          refine rb_aload_n C dX7_part_76 rfl 2 rfl ?_
          cases hf
          exact rb_aret C rfl (Or.inl ⟨_, rfl⟩) (Or.inr ⟨_, rfl⟩) hb.e.2.1 hb.e.2.2 dX7_part_77 ⟨rfl, rfl, hb.e.1⟩
        · have hf := (if_neg c_26).symm.trans hf
          refine rb_aload_n C dX7_part_13 rfl 0 rfl ?_
          obtain ⟨v_27, e_28, hf⟩ := rb_bd hf
          refine rb_hI C fl_X7_17_X7 e_28 dX7_part_14 ?_
          refine rb_istore_n (lv' := [(3, .int v_27), (0, .ref o), (1, .int x1), (2, .ref y2_l5_13)]) C dX7_part_17 rfl (by decide) rfl ?_
          refine rb_aload_n C dX7_part_18 rfl 1 rfl ?_
          obtain ⟨u_29, e_30, hf⟩ := rb_bd hf
          obtain ⟨⟨r_32, h_33, k_34, s_35⟩, e_36, hf⟩ := rb_bd hf
          obtain ⟨a_39, b_40, hf, ea_37, eb_38⟩ := ad_at hf
          refine rb_callV (As := []) (rest := []) C mi_X7_take sv_X7_27 (hp_k_isC C.pf e_30 ck_X7) (ct_X7_take Ev h_18 (n_l5_13 + k_19) o r_32 _ _ _ e_36) rfl rfl (Nat.le_of_ble_eq_true rfl) ⟨by show 5 + 1 ≤ 12 + 2 * (d + 1); omega, by show 8 + (1 + 11) + 106 ≤ 400 + 80 * (d + 1); omega, Bd.c1 hb ea_37, Bd.s1 hb eb_38⟩ dX7_part_19 rb_xXi (rb_kXi fun hn_31 => (rb_w (kc := ((kc_l5_13 + k_19) + k_34)) (ks := ((ks_l5_13 + s_20) + s_35)) rfl rfl ?_))
          have hb := Bd.ade hb ea_37 eb_38
          refine rb_istore (lv' := [(4, .int r_32), (3, .int v_27), (0, .ref o), (1, .int x1), (2, .ref y2_l5_13)]) C dX7_part_22 (by decide) rfl ?_
          refine rb_aload_n C dX7_part_24 rfl 2 rfl ?_
          obtain ⟨v_41, e_42, hf⟩ := rb_bd hf
          refine rb_hP C fl_X7_7_X7 e_42 dX7_part_25 ?_
          refine rb_iload C dX7_part_28 0 rfl ?_
          obtain ⟨u_43, e_44, hf⟩ := rb_bd hf
          obtain ⟨⟨r_46, h_47, k_48, s_49⟩, e_50, hf⟩ := rb_bd hf
          obtain ⟨a_53, b_54, hf, ea_51, eb_52⟩ := ad_at hf
          rcases r_46 with v_55 | ⟨E_56, q_57⟩
          · dsimp only at hf
            refine rb_callV (As := [.int r_32]) (rest := []) C mi_X2_colourOf sv_X7_33 (hp_k_isC C.pf e_44 ck_X2) (ct_X2_colourOf Ev h_33 ((n_l5_13 + k_19) + k_34) v_41 r_32 (.inl v_55) _ _ _ e_50) rfl rfl (Nat.le_of_ble_eq_true rfl) ⟨by show 8 + 1 ≤ 12 + 2 * (d + 1); omega, by show 8 + (2 + 11) + 181 ≤ 400 + 80 * (d + 1); omega, Bd.c1 hb ea_51, Bd.s1 hb eb_52⟩ dX7_part_30 rb_xX (rb_kX (r := some (.int v_55)) (rb_w (kc := (((kc_l5_13 + k_19) + k_34) + k_48)) (ks := (((ks_l5_13 + s_20) + s_35) + s_49)) rfl rfl ?_))
            have hb := Bd.ade hb ea_51 eb_52
            refine rb_istore (lv' := [(5, .int v_55), (4, .int r_32), (3, .int v_27), (0, .ref o), (1, .int x1), (2, .ref y2_l5_13)]) C dX7_part_33 (by decide) rfl ?_
            obtain ⟨a_60, b_61, hf, ea_58, eb_59⟩ := ad_at hf
            refine rb_hnew C ck_X10 q1135 q1136 q101 [.int 0, .int 0, .null, .null] rfl (Bd.c1 hb ea_58) (Bd.s1 hb eb_59) dX7_part_35 ?_
            have hb := Bd.ade hb ea_58 eb_59
            obtain ⟨h_62, e_h_62⟩ : ∃ z, z = (va_up h_47 (((n_l5_13 + k_19) + k_34) + k_48) (some (.inr (8, [.int 0, .int 0, .null, .null])))) := ⟨_, rfl⟩
            rw [← e_h_62]
            have hf := rb_let hf e_h_62
            refine rb_dup C dX7_part_38 rfl ?_
            refine rb_iload_n C dX7_part_39 rfl 2 rfl ?_
            refine rb_iload C dX7_part_40 1 rfl ?_
            refine rb_aload_n C dX7_part_42 rfl 5 rfl ?_
            refine rb_aload_n C dX7_part_43 rfl 3 rfl ?_
            refine rb_aload_n C dX7_part_44 rfl 3 rfl ?_
            obtain ⟨v_63, e_64, hf⟩ := rb_bd hf
            refine rb_hP C fl_X7_7_X7 e_64 dX7_part_45 ?_
            obtain ⟨v_65, e_66, hf⟩ := rb_bd hf
            refine rb_hP C fl_X7_71_X2 e_66 dX7_part_48 ?_
            refine rb_iload C dX7_part_51 0 rfl ?_
            obtain ⟨v_67, e_68, hf⟩ := rb_bd hf
            refine rb_hzl C e_68 dX7_part_53 ?_
            have J_j66_70 : ∀ (w0_j66_70 : Int32) (kc_j66_70 ks_j66_70 a_ b_ : Nat), f_X7_part_j66_70 Ev o (f_X7_part Ev d) y2_l5_13 n_l5_13 (f_X7_part_l5_13 Ev o x1 (f_X7_part Ev d) k_l5_13) k_19 v_27 k_34 r_32 k_48 h_62 w0_j66_70 = some (r, h', a_, b_) → Bd (n + k) k s ((((n_l5_13 + k_19) + k_34) + k_48) + 1) kc_j66_70 ks_j66_70 a_ b_ → Wa Ev X (rm_X7_part (d + 1) k s) 6 h_62 ((((n_l5_13 + k_19) + k_34) + k_48) + 1) kc_j66_70 ks_j66_70 (rb_MQ Ev X (rm_X7_part (d + 1) k s) (pX (.inl (some (.ref r))) h' (n + k))) 66 [(0, .ref o), (1, .int x1), (2, .ref y2_l5_13), (3, .int v_27), (4, .int r_32), (5, .int v_55)] [.int w0_j66_70, .ref o, .ref y2_l5_13, .int r_32, .int v_27, .ref (((n_l5_13 + k_19) + k_34) + k_48), .ref (((n_l5_13 + k_19) + k_34) + k_48)] := by
              intro w0_j66_70 kc_j66_70 ks_j66_70 a_ b_ hf hb
              rw [f_X7_part_j66_70] at hf
              obtain ⟨u_71, e_72, hf⟩ := rb_bd hf
              obtain ⟨⟨r_74, h_75, k_76, s_77⟩, e_78, hf⟩ := rb_bd hf
              obtain ⟨a_81, b_82, hf, ea_79, eb_80⟩ := ad_at hf
              refine rb_callV (As := [.int w0_j66_70]) (rest := [.ref y2_l5_13, .int r_32, .int v_27, .ref (((n_l5_13 + k_19) + k_34) + k_48), .ref (((n_l5_13 + k_19) + k_34) + k_48)]) C mi_X7_part sv_X7_39 (hp_k_isC C.pf e_72 ck_X7) (ih h_62 ((((n_l5_13 + k_19) + k_34) + k_48) + 1) o w0_j66_70 r_74 _ _ _ e_78) rfl rfl (Nat.le_of_ble_eq_true rfl) ⟨by show (12 + 2 * d) + 1 ≤ 12 + 2 * (d + 1); omega, by show 8 + (6 + 11) + (400 + 80 * d) ≤ 400 + 80 * (d + 1); omega, Bd.c1 hb ea_79, Bd.s1 hb eb_80⟩ dX7_part_66 rb_xX (rb_kX (rb_w (kc := (kc_j66_70 + k_76)) (ks := (ks_j66_70 + s_77)) rfl rfl ?_))
              have hb := Bd.ade hb ea_79 eb_80
              obtain ⟨⟨r_84, h_85, k_86, s_87⟩, e_88, hf⟩ := rb_bd hf
              obtain ⟨a_91, b_92, hf, ea_89, eb_90⟩ := ad_at hf
              refine rb_callI (As := [.int v_27, .int r_32, .ref y2_l5_13, .ref r_74]) (rest := [.ref (((n_l5_13 + k_19) + k_34) + k_48)]) C mi_X10_init si_X7_75 (ct_X10_init Ev h_75 (((((n_l5_13 + k_19) + k_34) + k_48) + 1) + k_76) (((n_l5_13 + k_19) + k_34) + k_48) v_27 r_32 y2_l5_13 r_74 r_84 _ _ _ e_88) rfl rfl (Nat.le_of_ble_eq_true rfl) ⟨by show 1 + 1 ≤ 12 + 2 * (d + 1); omega, by show 8 + (5 + 11) + 40 ≤ 400 + 80 * (d + 1); omega, Bd.c1 hb ea_89, Bd.s1 hb eb_90⟩ dX7_part_69 rb_xX (rb_kX (rb_w (kc := ((kc_j66_70 + k_76) + k_86)) (ks := ((ks_j66_70 + s_77) + s_87)) rfl rfl ?_))
              have hb := Bd.ade hb ea_89 eb_90
              refine rb_astore_n (lv' := [(2, .ref (((n_l5_13 + k_19) + k_34) + k_48)), (0, .ref o), (1, .int x1), (3, .int v_27), (4, .int r_32), (5, .int v_55)]) C dX7_part_72 rfl (by decide) rfl ?_
              refine rb_goto (tgt := 5) C dX7_part_73 (by decide) ?_
              refine rb_sub [1, 2, 0] rfl ?_
              exact ih_l5_13 (((n_l5_13 + k_19) + k_34) + k_48) h_85 ((((((n_l5_13 + k_19) + k_34) + k_48) + 1) + k_76) + k_86) _ _ _ _ hf hb
            refine rb_if_eq (tgt := 62) C dX7_part_54 (by decide) (fun c_69 => ?_) (fun c_69 => ?_)
            · have hf := (if_pos c_69).symm.trans hf
              refine rb_iload C dX7_part_62 0 rfl ?_
              refine rb_iconst (v := 1) C dX7_part_64 rfl ?_
              refine rb_iadd C dX7_part_65 ?_
              refine rb_sub [3, 4, 5, 2, 1, 0] rfl ?_
              exact J_j66_70 (v_55 + 1)  _ _ _ _ hf hb
            · have hf := (if_neg c_69).symm.trans hf
              refine rb_iload C dX7_part_57 0 rfl ?_
              refine rb_goto (tgt := 66) C dX7_part_59 (by decide) ?_
              refine rb_sub [3, 4, 5, 2, 1, 0] rfl ?_
              exact J_j66_70 v_55  _ _ _ _ hf hb
          · dsimp only at hf
            by_cases c_93 : E_56 = "java/lang/IllegalArgumentException"
            · have hf := (if_pos c_93).symm.trans hf
              subst c_93
              refine rb_callV (As := [.int r_32]) (rest := []) C mi_X2_colourOf sv_X7_33 (hp_k_isC C.pf e_44 ck_X2) (ct_X2_colourOf Ev h_33 ((n_l5_13 + k_19) + k_34) v_41 r_32 (.inr ("java/lang/IllegalArgumentException", q_57)) _ _ _ e_50) rfl rfl (Nat.le_of_ble_eq_true rfl) ⟨by show 8 + 1 ≤ 12 + 2 * (d + 1); omega, by show 8 + (2 + 11) + 181 ≤ 400 + 80 * (d + 1); omega, Bd.c1 hb ea_51, Bd.s1 hb eb_52⟩ dX7_part_30 (rb_xY (E := "java/lang/IllegalArgumentException") (rb_wX (kc := (((kc_l5_13 + k_19) + k_34) + k_48)) (ks := (((ks_l5_13 + s_20) + s_35) + s_49)) rfl rfl ?_)) rb_kY
              have hb := Bd.ade hb ea_51 eb_52
              cases hf
            have hf := (if_neg c_93).symm.trans hf
            cases hf
    refine rb_sub [1, 2, 0] rfl ?_
    exact L_l5_13 4096 r_4 h_5 (n + k_6) _ _ _ _ hf hb
def f_X2_tree (Ev : rb_E) (h : AH) (n : Nat) (o : Nat) : Option ((Nat ⊕ (String × Nat)) × AH × Nat × Nat) := ((hp_k Ev h o 1).bind fun u_1 => ((f_X2_requireExpression Ev h n o).bind fun (r_4, h_5, k_6, s_7) => (ad k_6 s_7 (match r_4 with | .inl v_13 => (ad 1 3 (rb_lt (va_up h_5 (n + k_6) (some (.inr (5, [.null, .null, .int 0])))) fun h_20 => ((hp_p Ev h_20 o 1 0).bind fun v_21 => ((hp_k Ev h_20 v_21 13).bind fun u_23 => ((f_J1_toString Ev h_20 ((n + k_6) + 1) v_21).bind fun (r_26, h_27, k_28, s_29) => (ad k_28 s_29 ((f_X7_init Ev h_27 (((n + k_6) + 1) + k_28) (n + k_6) o r_26).bind fun (r_36, h_37, k_38, s_39) => (ad k_38 s_39 ((hp_k Ev h_37 (n + k_6) 5).bind fun u_45 => ((f_X7_part Ev 30 h_37 ((((n + k_6) + 1) + k_28) + k_38) (n + k_6) 0).bind fun (r_48, h_49, k_50, s_51) => (ad k_50 s_51 (some (.inl r_48, h_49, 0, 0))))))))))))) | .inr (E_14, q_15) => (if E_14 = "RainbowOperators$Denial" then (some (.inr ("RainbowOperators$Denial", q_15), h_5, 0, 0)) else none)))))
abbrev rm_X2_tree (k s : Nat) : Room := { frames := 73, cells := k, slots := s, locals := 2825 }
set_option maxHeartbeats 4000000 in
theorem ct_X2_tree (Ev : rb_E) (h : AH) (n : Nat) (o : Nat) (r : Nat ⊕ (String × Nat)) (h' : AH) (k s : Nat) (hf : f_X2_tree Ev h n o = some (r, h', k, s)) : Ct Ev yX2_tree (ws_ yX2_tree cX2_tree 1 (some (.object "RainbowOperators$Part"))) (rm_X2_tree k s) [.ref o] h n (pX (rMap (fun v => some (.ref v)) r) h' (n + k)) := by
  rw [f_X2_tree] at hf
  refine Ct.of rfl (Nat.le_of_ble_eq_true rfl) fun X C hnm => ?_
  have C : Cx Ev X RX2 cX2_tree 1 (some (.object "RainbowOperators$Part")) [] := C
  show Wa Ev X (rm_X2_tree k s) 1 h n 0 0 (rb_MQ Ev X (rm_X2_tree k s) (pX (rMap (fun v => some (.ref v)) r) h' (n + k))) 0 [(0, .ref o)] []
  have hb : Bd (n + k) k s n 0 0 k s := ⟨rfl, Nat.le_of_eq (Nat.zero_add _), Nat.le_of_eq (Nat.zero_add _)⟩
  refine rb_aload_n C dX2_tree_0 rfl 0 rfl ?_
  obtain ⟨u_1, e_2, hf⟩ := rb_bd hf
  obtain ⟨⟨r_4, h_5, k_6, s_7⟩, e_8, hf⟩ := rb_bd hf
  obtain ⟨a_11, b_12, hf, ea_9, eb_10⟩ := ad_at hf
  rcases r_4 with v_13 | ⟨E_14, q_15⟩
  · dsimp only at hf
    refine rb_callV (As := []) (rest := []) C mi_X2_requireExpression sv_X2_141 (hp_k_isC C.pf e_2 ck_X2) (ct_X2_requireExpression Ev h n o (.inl v_13) _ _ _ e_8) rfl rfl (Nat.le_of_ble_eq_true rfl) ⟨Nat.le_of_ble_eq_true rfl, Nat.le_of_ble_eq_true rfl, Bd.c1 hb ea_9, Bd.s1 hb eb_10⟩ dX2_tree_1 rb_xX (rb_kX (r := none) (rb_w (kc := (0 + k_6)) (ks := (0 + s_7)) rfl rfl ?_))
    have hb := Bd.ade hb ea_9 eb_10
    obtain ⟨a_18, b_19, hf, ea_16, eb_17⟩ := ad_at hf
    refine rb_hnew C ck_X7 q1064 q1065 q98 [.null, .null, .int 0] rfl (Bd.c1 hb ea_16) (Bd.s1 hb eb_17) dX2_tree_4 ?_
    have hb := Bd.ade hb ea_16 eb_17
    obtain ⟨h_20, e_h_20⟩ : ∃ z, z = (va_up h_5 (n + k_6) (some (.inr (5, [.null, .null, .int 0])))) := ⟨_, rfl⟩
    rw [← e_h_20]
    have hf := rb_let hf e_h_20
    refine rb_dup C dX2_tree_7 rfl ?_
    refine rb_aload_n C dX2_tree_8 rfl 0 rfl ?_
    refine rb_aload_n C dX2_tree_9 rfl 0 rfl ?_
    obtain ⟨v_21, e_22, hf⟩ := rb_bd hf
    refine rb_hP C fl_X2_12_X2 e_22 dX2_tree_10 ?_
    obtain ⟨u_23, e_24, hf⟩ := rb_bd hf
    obtain ⟨⟨r_26, h_27, k_28, s_29⟩, e_30, hf⟩ := rb_bd hf
    obtain ⟨a_33, b_34, hf, ea_31, eb_32⟩ := ad_at hf
    refine rb_callV (As := []) (rest := [.ref o, .ref (n + k_6), .ref (n + k_6)]) C mi_J1_toString sv_X2_146 (hp_k_isC C.pf e_24 ck_J1) (ct_J1_toString Ev h_20 ((n + k_6) + 1) v_21 r_26 _ _ _ e_30) rfl rfl (Nat.le_of_ble_eq_true rfl) ⟨Nat.le_of_ble_eq_true rfl, Nat.le_of_ble_eq_true rfl, Bd.c1 hb ea_31, Bd.s1 hb eb_32⟩ dX2_tree_13 rb_xX (rb_kX (rb_w (kc := (((0 + k_6) + 1) + k_28)) (ks := (((0 + s_7) + 3) + s_29)) rfl rfl ?_))
    have hb := Bd.ade hb ea_31 eb_32
    obtain ⟨⟨r_36, h_37, k_38, s_39⟩, e_40, hf⟩ := rb_bd hf
    obtain ⟨a_43, b_44, hf, ea_41, eb_42⟩ := ad_at hf
    refine rb_callI (As := [.ref o, .ref r_26]) (rest := [.ref (n + k_6)]) C mi_X7_init si_X2_150 (ct_X7_init Ev h_27 (((n + k_6) + 1) + k_28) (n + k_6) o r_26 r_36 _ _ _ e_40) rfl rfl (Nat.le_of_ble_eq_true rfl) ⟨Nat.le_of_ble_eq_true rfl, Nat.le_of_ble_eq_true rfl, Bd.c1 hb ea_41, Bd.s1 hb eb_42⟩ dX2_tree_16 rb_xX (rb_kX (rb_w (kc := ((((0 + k_6) + 1) + k_28) + k_38)) (ks := ((((0 + s_7) + 3) + s_29) + s_39)) rfl rfl ?_))
    have hb := Bd.ade hb ea_41 eb_42
    refine rb_iconst (v := 0) C dX2_tree_19 rfl ?_
    obtain ⟨u_45, e_46, hf⟩ := rb_bd hf
    obtain ⟨⟨r_48, h_49, k_50, s_51⟩, e_52, hf⟩ := rb_bd hf
    obtain ⟨a_55, b_56, hf, ea_53, eb_54⟩ := ad_at hf
    refine rb_callV (As := [.int 0]) (rest := []) C mi_X7_part sv_X2_153 (hp_k_isC C.pf e_46 ck_X7) (ct_X7_part Ev h_37 ((((n + k_6) + 1) + k_28) + k_38) 30 (n + k_6) 0 r_48 _ _ _ e_52) rfl rfl (Nat.le_of_ble_eq_true rfl) ⟨Nat.le_of_ble_eq_true rfl, Nat.le_of_ble_eq_true rfl, Bd.c1 hb ea_53, Bd.s1 hb eb_54⟩ dX2_tree_20 rb_xX (rb_kX (rb_w (kc := (((((0 + k_6) + 1) + k_28) + k_38) + k_50)) (ks := (((((0 + s_7) + 3) + s_29) + s_39) + s_51)) rfl rfl ?_))
    have hb := Bd.ade hb ea_53 eb_54
    cases hf
    exact rb_aret C rfl (Or.inl ⟨_, rfl⟩) (Or.inr ⟨_, rfl⟩) hb.e.2.1 hb.e.2.2 dX2_tree_23 ⟨rfl, rfl, hb.e.1⟩
  · dsimp only at hf
    by_cases c_57 : E_14 = "RainbowOperators$Denial"
    · have hf := (if_pos c_57).symm.trans hf
      subst c_57
      refine rb_callV (As := []) (rest := []) C mi_X2_requireExpression sv_X2_141 (hp_k_isC C.pf e_2 ck_X2) (ct_X2_requireExpression Ev h n o (.inr ("RainbowOperators$Denial", q_15)) _ _ _ e_8) rfl rfl (Nat.le_of_ble_eq_true rfl) ⟨Nat.le_of_ble_eq_true rfl, Nat.le_of_ble_eq_true rfl, Bd.c1 hb ea_9, Bd.s1 hb eb_10⟩ dX2_tree_1 (rb_xY (E := "RainbowOperators$Denial") (rb_wX (kc := (0 + k_6)) (ks := (0 + s_7)) rfl rfl ?_)) rb_kY
      have hb := Bd.ade hb ea_9 eb_10
      cases hf
      exact rb_out C (fun _ z => absurd z List.not_mem_nil) hb.e.2.1 hb.e.2.2 ⟨rfl, rfl, hb.e.1⟩
    have hf := (if_neg c_57).symm.trans hf
    cases hf
def f_X2_valueOf (Ev : rb_E) (h : AH) (o : Nat) (x1 : Int32) : Option Int32 := (if (f_X1_inRange x1 48 57) = 0 then ((hp_p Ev h o 1 4).bind fun v_3 => ((hp_il Ev h v_3 (x1 - 65)).bind fun v_5 => (some v_5))) else (some (x1 - 48)))
abbrev rm_X2_valueOf : Room := { frames := 1, cells := 0, slots := 0, locals := 22 }
set_option maxHeartbeats 4000000 in
theorem ct_X2_valueOf (Ev : rb_E) (h : AH) (n : Nat) (o : Nat) (x1 : Int32) (r : Int32) (hf : f_X2_valueOf Ev h o x1 = some r) : Ct Ev yX2_valueOf (ws_ yX2_valueOf cX2_valueOf 2 (some .int)) (rm_X2_valueOf) [.ref o, .int x1] h n (pXi .int r h n) := by
  rw [f_X2_valueOf] at hf
  refine Ct.of rfl (Nat.le_of_ble_eq_true rfl) fun X C hnm => ?_
  have C : Cx Ev X RX2 cX2_valueOf 2 (some .int) [] := C
  show Wa Ev X (rm_X2_valueOf) 2 h n 0 0 (rb_MQ Ev X (rm_X2_valueOf) (pXi .int r h n)) 0 [(0, .ref o), (1, .int x1)] []
  refine rb_iload_n C dX2_valueOf_0 rfl 1 rfl ?_
  refine rb_bipush (v := 48) C dX2_valueOf_1 rfl ?_
  refine rb_bipush (v := 57) C dX2_valueOf_3 rfl ?_
  refine rb_callSN (As := [.int x1, .int 48, .int 57]) (rest := []) C mi_X1_inRange ss_X2_84 (ct_X1_inRange Ev h n x1 48 57 _ rfl) rfl rfl (Nat.le_of_ble_eq_true rfl) ⟨Nat.le_of_ble_eq_true rfl, Nat.le_of_ble_eq_true rfl, (Nat.zero_le _), (Nat.zero_le _)⟩ dX2_valueOf_5 rb_xXi (rb_kXi fun hn_1 => (rb_w (kc := 0) (ks := 0) rfl rfl ?_))
  refine rb_if_eq (tgt := 18) C dX2_valueOf_8 (by decide) (fun c_2 => ?_) (fun c_2 => ?_)
  · have hf := (if_pos c_2).symm.trans hf
    refine rb_aload_n C dX2_valueOf_18 rfl 0 rfl ?_
    obtain ⟨v_3, e_4, hf⟩ := rb_bd hf
    refine rb_hP C fl_X2_51_X2 e_4 dX2_valueOf_19 ?_
    refine rb_iload_n C dX2_valueOf_22 rfl 1 rfl ?_
    refine rb_bipush (v := 65) C dX2_valueOf_23 rfl ?_
    refine rb_isub C dX2_valueOf_25 ?_
    obtain ⟨v_5, e_6, hf⟩ := rb_bd hf
    refine rb_hil C e_6 dX2_valueOf_26 ?_
    cases hf
    exact rb_iret C rfl rfl (Nat.zero_le _) (Nat.zero_le _) dX2_valueOf_27 ⟨rfl, rfl, rfl, rfl⟩
  · have hf := (if_neg c_2).symm.trans hf
    refine rb_iload_n C dX2_valueOf_11 rfl 1 rfl ?_
    refine rb_bipush (v := 48) C dX2_valueOf_12 rfl ?_
    refine rb_isub C dX2_valueOf_14 ?_
    refine rb_goto (tgt := 27) C dX2_valueOf_15 (by decide) ?_
    cases hf
    exact rb_iret C rfl rfl (Nat.zero_le _) (Nat.zero_le _) dX2_valueOf_27 ⟨rfl, rfl, rfl, rfl⟩
def f_X2_meaningOf (Ev : rb_E) (h : AH) (n : Nat) (o : Nat) (x1 : Int32) : Option ((Nat ⊕ (String × Nat)) × AH × Nat × Nat) := ((hp_p Ev h o 1 2).bind fun v_1 => ((f_X1_requiredIn Ev h n (eS Ev RX2 70) x1).bind fun (r_4, h_5, k_6, s_7) => (ad k_6 s_7 (match r_4 with | .inl v_13 => ((hp_ap Ev h_5 7 v_1 v_13).bind fun v_16 => (some (.inl v_16, h_5, 0, 0))) | .inr (E_14, q_15) => (if E_14 = "java/lang/IllegalArgumentException" then (some (.inr ("java/lang/IllegalArgumentException", q_15), h_5, 0, 0)) else none)))))
abbrev rm_X2_meaningOf (k s : Nat) : Room := { frames := 8, cells := k, slots := s, locals := 181 }
set_option maxHeartbeats 4000000 in
theorem ct_X2_meaningOf (Ev : rb_E) (h : AH) (n : Nat) (o : Nat) (x1 : Int32) (r : Nat ⊕ (String × Nat)) (h' : AH) (k s : Nat) (hf : f_X2_meaningOf Ev h n o x1 = some (r, h', k, s)) : Ct Ev yX2_meaningOf (ws_ yX2_meaningOf cX2_meaningOf 2 (some (.object "RainbowOperators$Meaning"))) (rm_X2_meaningOf k s) [.ref o, .int x1] h n (pX (rMap (fun v => some (.ref v)) r) h' (n + k)) := by
  rw [f_X2_meaningOf] at hf
  refine Ct.of rfl (Nat.le_of_ble_eq_true rfl) fun X C hnm => ?_
  have C : Cx Ev X RX2 cX2_meaningOf 2 (some (.object "RainbowOperators$Meaning")) [] := C
  show Wa Ev X (rm_X2_meaningOf k s) 2 h n 0 0 (rb_MQ Ev X (rm_X2_meaningOf k s) (pX (rMap (fun v => some (.ref v)) r) h' (n + k))) 0 [(0, .ref o), (1, .int x1)] []
  have hb : Bd (n + k) k s n 0 0 k s := ⟨rfl, Nat.le_of_eq (Nat.zero_add _), Nat.le_of_eq (Nat.zero_add _)⟩
  refine rb_aload_n C dX2_meaningOf_0 rfl 0 rfl ?_
  obtain ⟨v_1, e_2, hf⟩ := rb_bd hf
  refine rb_hP C fl_X2_43_X2 e_2 dX2_meaningOf_1 ?_
  refine rb_ldcS C q897 dX2_meaningOf_4 ?_
  refine rb_iload_n C dX2_meaningOf_6 rfl 1 rfl ?_
  obtain ⟨⟨r_4, h_5, k_6, s_7⟩, e_8, hf⟩ := rb_bd hf
  obtain ⟨a_11, b_12, hf, ea_9, eb_10⟩ := ad_at hf
  rcases r_4 with v_13 | ⟨E_14, q_15⟩
  · dsimp only at hf
    refine rb_callSN (As := [.ref (eS Ev RX2 70), .int x1]) (rest := [.ref v_1]) C mi_X1_requiredIn ss_X2_66 (ct_X1_requiredIn Ev h n (eS Ev RX2 70) x1 (.inl v_13) _ _ _ e_8) rfl rfl (Nat.le_of_ble_eq_true rfl) ⟨Nat.le_of_ble_eq_true rfl, Nat.le_of_ble_eq_true rfl, Bd.c1 hb ea_9, Bd.s1 hb eb_10⟩ dX2_meaningOf_7 rb_xX (rb_kX (r := some (.int v_13)) (rb_w (kc := (0 + k_6)) (ks := (0 + s_7)) rfl rfl ?_))
    have hb := Bd.ade hb ea_9 eb_10
    obtain ⟨v_16, e_17, hf⟩ := rb_bd hf
    refine rb_hap C 7 rfl rfl e_17 dX2_meaningOf_10 ?_
    cases hf
    exact rb_aret C rfl (Or.inl ⟨_, rfl⟩) (Or.inr ⟨_, rfl⟩) hb.e.2.1 hb.e.2.2 dX2_meaningOf_11 ⟨rfl, rfl, hb.e.1⟩
  · dsimp only at hf
    by_cases c_18 : E_14 = "java/lang/IllegalArgumentException"
    · have hf := (if_pos c_18).symm.trans hf
      subst c_18
      refine rb_callSN (As := [.ref (eS Ev RX2 70), .int x1]) (rest := [.ref v_1]) C mi_X1_requiredIn ss_X2_66 (ct_X1_requiredIn Ev h n (eS Ev RX2 70) x1 (.inr ("java/lang/IllegalArgumentException", q_15)) _ _ _ e_8) rfl rfl (Nat.le_of_ble_eq_true rfl) ⟨Nat.le_of_ble_eq_true rfl, Nat.le_of_ble_eq_true rfl, Bd.c1 hb ea_9, Bd.s1 hb eb_10⟩ dX2_meaningOf_7 (rb_xY (E := "java/lang/IllegalArgumentException") (rb_wX (kc := (0 + k_6)) (ks := (0 + s_7)) rfl rfl ?_)) rb_kY
      have hb := Bd.ade hb ea_9 eb_10
      cases hf
      exact rb_out C (fun _ z => absurd z List.not_mem_nil) hb.e.2.1 hb.e.2.2 ⟨rfl, rfl, hb.e.1⟩
    have hf := (if_neg c_18).symm.trans hf
    cases hf
def f_X15_apply (o : Nat) (x1 : Int32) (x2 : Int32) : Int32 := ((x1 + x2) - (x1 + x2) / 1000 * 1000)
abbrev rm_X15_apply : Room := { frames := 0, cells := 0, slots := 0, locals := 0 }
set_option maxHeartbeats 4000000 in
theorem ct_X15_apply (Ev : rb_E) (h : AH) (n : Nat) (o : Nat) (x1 : Int32) (x2 : Int32) (r : Int32) (hf : f_X15_apply o x1 x2 = r) : CtR Ev yX15_apply (ws_ yX15_apply cX15_apply 3 (some .int)) (rm_X15_apply) [.ref o, .int x1, .int x2] h n (pXi .int r h n) := by
  rw [f_X15_apply] at hf
  refine CtR.of rfl (Nat.le_of_ble_eq_true rfl) fun X C hnm => ?_
  have C : Cx Ev X RX15 cX15_apply 3 (some .int) [] := C
  show Wa Ev X (rm_X15_apply) 3 h n 0 0 (rb_MQ Ev X (rm_X15_apply) (pXi .int r h n)) 0 [(0, .ref o), (1, .int x1), (2, .int x2)] []
  refine rb_iload_n C dX15_apply_0 rfl 1 rfl ?_
  refine rb_iload_n C dX15_apply_1 rfl 2 rfl ?_
  refine rb_iadd C dX15_apply_2 ?_
  refine rb_sipush (v := 1000) C dX15_apply_3 rfl ?_
  refine rb_irem C dX15_apply_6 (by decide) ?_
  subst hf
  exact rb_iret C rfl rfl (Nat.zero_le _) (Nat.zero_le _) dX15_apply_7 ⟨rfl, rfl, rfl, rfl⟩
def f_X16_apply (o : Nat) (x1 : Int32) (x2 : Int32) : Int32 := (((x1 - x2) + 1000) - ((x1 - x2) + 1000) / 1000 * 1000)
abbrev rm_X16_apply : Room := { frames := 0, cells := 0, slots := 0, locals := 0 }
set_option maxHeartbeats 4000000 in
theorem ct_X16_apply (Ev : rb_E) (h : AH) (n : Nat) (o : Nat) (x1 : Int32) (x2 : Int32) (r : Int32) (hf : f_X16_apply o x1 x2 = r) : CtR Ev yX16_apply (ws_ yX16_apply cX16_apply 3 (some .int)) (rm_X16_apply) [.ref o, .int x1, .int x2] h n (pXi .int r h n) := by
  rw [f_X16_apply] at hf
  refine CtR.of rfl (Nat.le_of_ble_eq_true rfl) fun X C hnm => ?_
  have C : Cx Ev X RX16 cX16_apply 3 (some .int) [] := C
  show Wa Ev X (rm_X16_apply) 3 h n 0 0 (rb_MQ Ev X (rm_X16_apply) (pXi .int r h n)) 0 [(0, .ref o), (1, .int x1), (2, .int x2)] []
  refine rb_iload_n C dX16_apply_0 rfl 1 rfl ?_
  refine rb_iload_n C dX16_apply_1 rfl 2 rfl ?_
  refine rb_isub C dX16_apply_2 ?_
  refine rb_sipush (v := 1000) C dX16_apply_3 rfl ?_
  refine rb_iadd C dX16_apply_6 ?_
  refine rb_sipush (v := 1000) C dX16_apply_7 rfl ?_
  refine rb_irem C dX16_apply_10 (by decide) ?_
  subst hf
  exact rb_iret C rfl rfl (Nat.zero_le _) (Nat.zero_le _) dX16_apply_11 ⟨rfl, rfl, rfl, rfl⟩
def f_X17_apply (o : Nat) (x1 : Int32) (x2 : Int32) : Int32 := ((x1 * x2) - (x1 * x2) / 1000 * 1000)
abbrev rm_X17_apply : Room := { frames := 0, cells := 0, slots := 0, locals := 0 }
set_option maxHeartbeats 4000000 in
theorem ct_X17_apply (Ev : rb_E) (h : AH) (n : Nat) (o : Nat) (x1 : Int32) (x2 : Int32) (r : Int32) (hf : f_X17_apply o x1 x2 = r) : CtR Ev yX17_apply (ws_ yX17_apply cX17_apply 3 (some .int)) (rm_X17_apply) [.ref o, .int x1, .int x2] h n (pXi .int r h n) := by
  rw [f_X17_apply] at hf
  refine CtR.of rfl (Nat.le_of_ble_eq_true rfl) fun X C hnm => ?_
  have C : Cx Ev X RX17 cX17_apply 3 (some .int) [] := C
  show Wa Ev X (rm_X17_apply) 3 h n 0 0 (rb_MQ Ev X (rm_X17_apply) (pXi .int r h n)) 0 [(0, .ref o), (1, .int x1), (2, .int x2)] []
  refine rb_iload_n C dX17_apply_0 rfl 1 rfl ?_
  refine rb_iload_n C dX17_apply_1 rfl 2 rfl ?_
  refine rb_imul C dX17_apply_2 ?_
  refine rb_sipush (v := 1000) C dX17_apply_3 rfl ?_
  refine rb_irem C dX17_apply_6 (by decide) ?_
  subst hf
  exact rb_iret C rfl rfl (Nat.zero_le _) (Nat.zero_le _) dX17_apply_7 ⟨rfl, rfl, rfl, rfl⟩
def f_X18_apply (o : Nat) (x1 : Int32) (x2 : Int32) : Int32 := (if x1 < x2 then x2 else x1)
abbrev rm_X18_apply : Room := { frames := 1, cells := 0, slots := 0, locals := 60 }
set_option maxHeartbeats 4000000 in
theorem ct_X18_apply (Ev : rb_E) (h : AH) (n : Nat) (o : Nat) (x1 : Int32) (x2 : Int32) (r : Int32) (hf : f_X18_apply o x1 x2 = r) : CtR Ev yX18_apply (ws_ yX18_apply cX18_apply 3 (some .int)) (rm_X18_apply) [.ref o, .int x1, .int x2] h n (pXi .int r h n) := by
  rw [f_X18_apply] at hf
  refine CtR.of rfl (Nat.le_of_ble_eq_true rfl) fun X C hnm => ?_
  have C : Cx Ev X RX18 cX18_apply 3 (some .int) [] := C
  show Wa Ev X (rm_X18_apply) 3 h n 0 0 (rb_MQ Ev X (rm_X18_apply) (pXi .int r h n)) 0 [(0, .ref o), (1, .int x1), (2, .int x2)] []
  refine rb_iload_n C dX18_apply_0 rfl 1 rfl ?_
  refine rb_iload_n C dX18_apply_1 rfl 2 rfl ?_
  refine rb_mmax C q1188 q288 q81 q289 (Nat.le_of_ble_eq_true rfl) (Nat.le_of_ble_eq_true rfl) (Nat.zero_le _) (Nat.zero_le _) dX18_apply_2 ?_
  subst hf
  exact rb_iret C rfl rfl (Nat.zero_le _) (Nat.zero_le _) dX18_apply_5 ⟨rfl, rfl, rfl, rfl⟩
def f_X19_apply (o : Nat) (x1 : Int32) (x2 : Int32) : Int32 := (if x2 < x1 then x2 else x1)
abbrev rm_X19_apply : Room := { frames := 1, cells := 0, slots := 0, locals := 60 }
set_option maxHeartbeats 4000000 in
theorem ct_X19_apply (Ev : rb_E) (h : AH) (n : Nat) (o : Nat) (x1 : Int32) (x2 : Int32) (r : Int32) (hf : f_X19_apply o x1 x2 = r) : CtR Ev yX19_apply (ws_ yX19_apply cX19_apply 3 (some .int)) (rm_X19_apply) [.ref o, .int x1, .int x2] h n (pXi .int r h n) := by
  rw [f_X19_apply] at hf
  refine CtR.of rfl (Nat.le_of_ble_eq_true rfl) fun X C hnm => ?_
  have C : Cx Ev X RX19 cX19_apply 3 (some .int) [] := C
  show Wa Ev X (rm_X19_apply) 3 h n 0 0 (rb_MQ Ev X (rm_X19_apply) (pXi .int r h n)) 0 [(0, .ref o), (1, .int x1), (2, .int x2)] []
  refine rb_iload_n C dX19_apply_0 rfl 1 rfl ?_
  refine rb_iload_n C dX19_apply_1 rfl 2 rfl ?_
  refine rb_mmin C q1192 q306 q81 q307 (Nat.le_of_ble_eq_true rfl) (Nat.le_of_ble_eq_true rfl) (Nat.zero_le _) (Nat.zero_le _) dX19_apply_2 ?_
  subst hf
  exact rb_iret C rfl rfl (Nat.zero_le _) (Nat.zero_le _) dX19_apply_5 ⟨rfl, rfl, rfl, rfl⟩
def f_X20_apply (o : Nat) (x1 : Int32) (x2 : Int32) : Int32 := (((10 * x1) + x2) - ((10 * x1) + x2) / 1000 * 1000)
abbrev rm_X20_apply : Room := { frames := 0, cells := 0, slots := 0, locals := 0 }
set_option maxHeartbeats 4000000 in
theorem ct_X20_apply (Ev : rb_E) (h : AH) (n : Nat) (o : Nat) (x1 : Int32) (x2 : Int32) (r : Int32) (hf : f_X20_apply o x1 x2 = r) : CtR Ev yX20_apply (ws_ yX20_apply cX20_apply 3 (some .int)) (rm_X20_apply) [.ref o, .int x1, .int x2] h n (pXi .int r h n) := by
  rw [f_X20_apply] at hf
  refine CtR.of rfl (Nat.le_of_ble_eq_true rfl) fun X C hnm => ?_
  have C : Cx Ev X RX20 cX20_apply 3 (some .int) [] := C
  show Wa Ev X (rm_X20_apply) 3 h n 0 0 (rb_MQ Ev X (rm_X20_apply) (pXi .int r h n)) 0 [(0, .ref o), (1, .int x1), (2, .int x2)] []
  refine rb_bipush (v := 10) C dX20_apply_0 rfl ?_
  refine rb_iload_n C dX20_apply_2 rfl 1 rfl ?_
  refine rb_imul C dX20_apply_3 ?_
  refine rb_iload_n C dX20_apply_4 rfl 2 rfl ?_
  refine rb_iadd C dX20_apply_5 ?_
  refine rb_sipush (v := 1000) C dX20_apply_6 rfl ?_
  refine rb_irem C dX20_apply_9 (by decide) ?_
  subst hf
  exact rb_iret C rfl rfl (Nat.zero_le _) (Nat.zero_le _) dX20_apply_10 ⟨rfl, rfl, rfl, rfl⟩
/-- what the meaning at the place k computes -/
def f_enap (q k : Nat) (a b : Int32) : Int32 := if k = 0 then f_X15_apply q a b else if k = 1 then f_X16_apply q a b else if k = 2 then f_X17_apply q a b else if k = 3 then f_X18_apply q a b else if k = 4 then f_X19_apply q a b else f_X20_apply q a b
def f_X1_clouded (x0 : Int32) : Int32 := (999 - x0)
abbrev rm_X1_clouded : Room := { frames := 0, cells := 0, slots := 0, locals := 0 }
set_option maxHeartbeats 4000000 in
theorem ct_X1_clouded (Ev : rb_E) (h : AH) (n : Nat) (x0 : Int32) (r : Int32) (hf : f_X1_clouded x0 = r) : Ct Ev yX1_clouded (ws_ yX1_clouded cX1_clouded 1 (some .int)) (rm_X1_clouded) [.int x0] h n (pXi .int r h n) := by
  rw [f_X1_clouded] at hf
  refine Ct.of rfl (Nat.le_of_ble_eq_true rfl) fun X C hnm => ?_
  have C : Cx Ev X RX1 cX1_clouded 1 (some .int) [] := C
  show Wa Ev X (rm_X1_clouded) 1 h n 0 0 (rb_MQ Ev X (rm_X1_clouded) (pXi .int r h n)) 0 [(0, .int x0)] []
  refine rb_sipush (v := 999) C dX1_clouded_0 rfl ?_
  refine rb_iload_n C dX1_clouded_3 rfl 0 rfl ?_
  refine rb_isub C dX1_clouded_4 ?_
  subst hf
  exact rb_iret C rfl rfl (Nat.zero_le _) (Nat.zero_le _) dX1_clouded_5 ⟨rfl, rfl, rfl, rfl⟩
def f_X2_computed (Ev : rb_E) : Nat → AH → Nat → Nat → Nat → Option (Int32 × AH × Nat × Nat)
  | 0, _, _, _, _ => none
  | d + 1, h, n, o, x1 => ((hp_isa Ev h x1 [6] [7, 8]).bind fun v_1 => (if v_1 = 0 then ((hp_isa Ev h x1 [8] [6, 7]).bind fun v_4 => (if v_4 = 0 then ((hp_isa Ev h x1 [7] [6, 8]).bind fun v_7 => (if v_7 = 0 then (some (0, h, 0, 0)) else ((hp_ca Ev h x1 [7]).bind fun u_10 => ((hp_i Ev h x1 7 1).bind fun v_12 => ((hp_k Ev h o 1).bind fun u_14 => ((f_X2_valueOf Ev h o v_12).bind fun v_17 => (some (v_17, h, 0, 0)))))))) else ((hp_ca Ev h x1 [8]).bind fun u_19 => ((hp_p Ev h x1 8 2).bind fun v_21 => ((hp_k Ev h o 1).bind fun u_23 => (((f_X2_computed Ev d) h n o v_21).bind fun (r_26, h_27, k_28, s_29) => (ad k_28 s_29 ((hp_i Ev h_27 x1 8 1).bind fun v_35 => ((hp_k Ev h_27 o 1).bind fun u_37 => ((f_X2_meaningOf Ev h_27 (n + k_28) o v_35).bind fun (r_40, h_41, k_42, s_43) => (ad k_42 s_43 (match r_40 with | .inl v_49 => ((hp_p Ev h_41 x1 8 3).bind fun v_52 => ((hp_k Ev h_41 o 1).bind fun u_54 => (((f_X2_computed Ev d) h_41 ((n + k_28) + k_42) o v_52).bind fun (r_57, h_58, k_59, s_60) => (ad k_59 s_60 ((hp_en Ev v_49).bind fun k_66 => (some ((f_enap v_49 k_66 r_26 r_57), h_58, 0, 0))))))) | .inr (E_50, q_51) => (if E_50 = "java/lang/IllegalArgumentException" then none else none))))))))))))) else ((hp_ca Ev h x1 [6]).bind fun u_69 => ((hp_p Ev h x1 6 1).bind fun v_71 => ((hp_k Ev h o 1).bind fun u_73 => (((f_X2_computed Ev d) h n o v_71).bind fun (r_76, h_77, k_78, s_79) => (ad k_78 s_79 (some ((f_X1_clouded r_76), h_77, 0, 0)))))))))
abbrev rm_X2_computed (d : Nat) (k s : Nat) : Room := { frames := 12 + 2 * d, cells := k, slots := s, locals := 400 + 80 * d }
set_option maxHeartbeats 4000000 in
theorem ct_X2_computed (Ev : rb_E) (h : AH) (n : Nat) (d : Nat) (o : Nat) (x1 : Nat) (r : Int32) (h' : AH) (k s : Nat) (hf : f_X2_computed Ev d h n o x1 = some (r, h', k, s)) : Ct Ev yX2_computed (ws_ yX2_computed cX2_computed 4 (some .int)) (rm_X2_computed d k s) [.ref o, .ref x1] h n (pXi .int r h' (n + k)) := by
  induction d generalizing h n o x1 r h' k s with
  | zero => cases hf
  | succ d ih =>
    rw [f_X2_computed] at hf
    refine Ct.of rfl (Nat.le_of_ble_eq_true rfl) fun X C hnm => ?_
    have C : Cx Ev X RX2 cX2_computed 4 (some .int) [] := C
    show Wa Ev X (rm_X2_computed (d + 1) k s) 4 h n 0 0 (rb_MQ Ev X (rm_X2_computed (d + 1) k s) (pXi .int r h' (n + k))) 0 [(0, .ref o), (1, .ref x1)] []
    have hb : Bd (n + k) k s n 0 0 k s := ⟨rfl, Nat.le_of_eq (Nat.zero_add _), Nat.le_of_eq (Nat.zero_add _)⟩
    refine rb_aload_n C dX2_computed_0 rfl 1 rfl ?_
    obtain ⟨v_1, e_2, hf⟩ := rb_bd hf
    refine rb_hin C q1164 okp_RainbowOperators_Cloud okn_RainbowOperators_Cloud e_2 dX2_computed_1 ?_
    refine rb_if_eq (tgt := 24) C dX2_computed_4 (by decide) (fun c_3 => ?_) (fun c_3 => ?_)
    · have hf := (if_pos c_3).symm.trans hf
      refine rb_aload_n C dX2_computed_24 rfl 1 rfl ?_
      obtain ⟨v_4, e_5, hf⟩ := rb_bd hf
      refine rb_hin C q1168 okp_RainbowOperators_Application okn_RainbowOperators_Application e_5 dX2_computed_25 ?_
      refine rb_if_eq (tgt := 66) C dX2_computed_28 (by decide) (fun c_6 => ?_) (fun c_6 => ?_)
      · have hf := (if_pos c_6).symm.trans hf
        refine rb_aload_n C dX2_computed_66 rfl 1 rfl ?_
        obtain ⟨v_7, e_8, hf⟩ := rb_bd hf
        refine rb_hin C q1196 okp_RainbowOperators_Operand okn_RainbowOperators_Operand e_8 dX2_computed_67 ?_
        refine rb_if_eq (tgt := 89) C dX2_computed_70 (by decide) (fun c_9 => ?_) (fun c_9 => ?_)
        · have hf := (if_pos c_9).symm.trans hf
          refine rb_iconst (v := 0) C dX2_computed_89 rfl ?_
          cases hf
          exact rb_iret C rfl rfl hb.e.2.1 hb.e.2.2 dX2_computed_90 ⟨rfl, rfl, hb.e.1, rfl⟩
        · have hf := (if_neg c_9).symm.trans hf
          refine rb_aload_n C dX2_computed_73 rfl 1 rfl ?_
          obtain ⟨u_10, e_11, hf⟩ := rb_bd hf
          refine rb_hca C q1196 okp_RainbowOperators_Operand e_11 dX2_computed_74 ?_
          refine rb_astore_n (lv' := [(2, .ref x1), (0, .ref o), (1, .ref x1)]) C dX2_computed_77 rfl (by decide) rfl ?_
          refine rb_aload_n C dX2_computed_78 rfl 1 rfl ?_
          refine rb_aload_n C dX2_computed_79 rfl 0 rfl ?_
          obtain ⟨v_12, e_13, hf⟩ := rb_bd hf
          refine rb_hI C fl_X2_124_X9 e_13 dX2_computed_80 ?_
          obtain ⟨u_14, e_15, hf⟩ := rb_bd hf
          obtain ⟨v_17, e_18, hf⟩ := rb_bd hf
          refine rb_callV (As := [.int v_12]) (rest := []) C mi_X2_valueOf sv_X2_127 (hp_k_isC C.pf e_15 ck_X2) (ct_X2_valueOf Ev h n o v_12 _ e_18) rfl rfl (Nat.le_of_ble_eq_true rfl) ⟨by show 1 + 1 ≤ 12 + 2 * (d + 1); omega, by show 8 + (2 + 11) + 22 ≤ 400 + 80 * (d + 1); omega, hb.c0, hb.s0⟩ dX2_computed_83 rb_xXi (rb_kXi fun hn_16 => (rb_w (kc := 0) (ks := 0) rfl rfl ?_))
          refine rb_goto (tgt := 90) C dX2_computed_86 (by decide) ?_
          cases hf
          exact rb_iret C rfl rfl hb.e.2.1 hb.e.2.2 dX2_computed_90 ⟨rfl, rfl, hb.e.1, rfl⟩
      · have hf := (if_neg c_6).symm.trans hf
        refine rb_aload_n C dX2_computed_31 rfl 1 rfl ?_
        obtain ⟨u_19, e_20, hf⟩ := rb_bd hf
        refine rb_hca C q1168 okp_RainbowOperators_Application e_20 dX2_computed_32 ?_
        refine rb_astore_n (lv' := [(2, .ref x1), (0, .ref o), (1, .ref x1)]) C dX2_computed_35 rfl (by decide) rfl ?_
        refine rb_aload_n C dX2_computed_36 rfl 1 rfl ?_
        refine rb_aload_n C dX2_computed_37 rfl 0 rfl ?_
        obtain ⟨v_21, e_22, hf⟩ := rb_bd hf
        refine rb_hP C fl_X2_104_X10 e_22 dX2_computed_38 ?_
        obtain ⟨u_23, e_24, hf⟩ := rb_bd hf
        obtain ⟨⟨r_26, h_27, k_28, s_29⟩, e_30, hf⟩ := rb_bd hf
        obtain ⟨a_33, b_34, hf, ea_31, eb_32⟩ := ad_at hf
        refine rb_callV (As := [.ref v_21]) (rest := []) C mi_X2_computed sv_X2_94 (hp_k_isC C.pf e_24 ck_X2) (ih h n o v_21 r_26 _ _ _ e_30) rfl rfl (Nat.le_of_ble_eq_true rfl) ⟨by show (12 + 2 * d) + 1 ≤ 12 + 2 * (d + 1); omega, by show 8 + (4 + 11) + (400 + 80 * d) ≤ 400 + 80 * (d + 1); omega, Bd.c1 hb ea_31, Bd.s1 hb eb_32⟩ dX2_computed_41 rb_xXi (rb_kXi fun hn_25 => (rb_w (kc := (0 + k_28)) (ks := (0 + s_29)) rfl rfl ?_))
        have hb := Bd.ade hb ea_31 eb_32
        refine rb_istore_n (lv' := [(3, .int r_26), (2, .ref x1), (0, .ref o), (1, .ref x1)]) C dX2_computed_44 rfl (by decide) rfl ?_
        refine rb_aload_n C dX2_computed_45 rfl 2 rfl ?_
        refine rb_aload_n C dX2_computed_46 rfl 1 rfl ?_
        obtain ⟨v_35, e_36, hf⟩ := rb_bd hf
        refine rb_hI C fl_X2_107_X10 e_36 dX2_computed_47 ?_
        obtain ⟨u_37, e_38, hf⟩ := rb_bd hf
        obtain ⟨⟨r_40, h_41, k_42, s_43⟩, e_44, hf⟩ := rb_bd hf
        obtain ⟨a_47, b_48, hf, ea_45, eb_46⟩ := ad_at hf
        rcases r_40 with v_49 | ⟨E_50, q_51⟩
        · dsimp only at hf
          refine rb_callV (As := [.int v_35]) (rest := []) C mi_X2_meaningOf sv_X2_111 (hp_k_isC C.pf e_38 ck_X2) (ct_X2_meaningOf Ev h_27 (n + k_28) o v_35 (.inl v_49) _ _ _ e_44) rfl rfl (Nat.le_of_ble_eq_true rfl) ⟨by show 8 + 1 ≤ 12 + 2 * (d + 1); omega, by show 8 + (2 + 11) + 181 ≤ 400 + 80 * (d + 1); omega, Bd.c1 hb ea_45, Bd.s1 hb eb_46⟩ dX2_computed_50 rb_xX (rb_kX (r := some (.ref v_49)) (rb_w (kc := ((0 + k_28) + k_42)) (ks := ((0 + s_29) + s_43)) rfl rfl ?_))
          have hb := Bd.ade hb ea_45 eb_46
          refine rb_iload_n C dX2_computed_53 rfl 0 rfl ?_
          refine rb_aload_n C dX2_computed_54 rfl 2 rfl ?_
          refine rb_aload_n C dX2_computed_55 rfl 1 rfl ?_
          obtain ⟨v_52, e_53, hf⟩ := rb_bd hf
          refine rb_hP C fl_X2_115_X10 e_53 dX2_computed_56 ?_
          obtain ⟨u_54, e_55, hf⟩ := rb_bd hf
          obtain ⟨⟨r_57, h_58, k_59, s_60⟩, e_61, hf⟩ := rb_bd hf
          obtain ⟨a_64, b_65, hf, ea_62, eb_63⟩ := ad_at hf
          refine rb_callV (As := [.ref v_52]) (rest := [.int r_26, .ref v_49]) C mi_X2_computed sv_X2_94 (hp_k_isC C.pf e_55 ck_X2) (ih h_41 ((n + k_28) + k_42) o v_52 r_57 _ _ _ e_61) rfl rfl (Nat.le_of_ble_eq_true rfl) ⟨by show (12 + 2 * d) + 1 ≤ 12 + 2 * (d + 1); omega, by show 8 + (4 + 11) + (400 + 80 * d) ≤ 400 + 80 * (d + 1); omega, Bd.c1 hb ea_62, Bd.s1 hb eb_63⟩ dX2_computed_59 rb_xXi (rb_kXi fun hn_56 => (rb_w (kc := (((0 + k_28) + k_42) + k_59)) (ks := (((0 + s_29) + s_43) + s_60)) rfl rfl ?_))
          have hb := Bd.ade hb ea_62 eb_63
          obtain ⟨k_66, e_67, hf⟩ := rb_bd hf
          suffices kk_ap : Wa Ev X (rm_X2_computed (d + 1) k s) 4 h_58 (((n + k_28) + k_42) + k_59) (((0 + k_28) + k_42) + k_59) (((0 + s_29) + s_43) + s_60) (rb_MQ Ev X (rm_X2_computed (d + 1) k s) (pXi .int r h' (n + k))) 65 [(3, .int r_26), (2, .ref x1), (0, .ref o), (1, .ref x1)] [.int (f_enap v_49 k_66 r_26 r_57)] by
            obtain ⟨g1_ap, g2_ap⟩ := hp_en_at e_67
            rcases (show k_66 = 0 ∨ k_66 = 1 ∨ k_66 = 2 ∨ k_66 = 3 ∨ k_66 = 4 ∨ k_66 = 5 by omega) with rfl | rfl | rfl | rfl | rfl | rfl
            · exact rb_callVOR (As := [.int r_26, .int r_57]) (rest := []) C mr_X15_apply so_X2_118_X15_apply (hp_en_isC e_67) (ct_X15_apply Ev h_58 (((n + k_28) + k_42) + k_59) v_49 r_26 r_57 (f_enap v_49 0 r_26 r_57) rfl) rfl rfl (Nat.le_of_ble_eq_true rfl) ⟨by show 0 + 1 ≤ 12 + 2 * (d + 1); omega, by show 8 + (3 + 11) + 0 ≤ 400 + 80 * (d + 1); omega, hb.c0, hb.s0⟩ dX2_computed_62 rb_xXi (rb_kXi fun _ => rb_w (kc := (((0 + k_28) + k_42) + k_59)) (ks := (((0 + s_29) + s_43) + s_60)) rfl rfl kk_ap)
            · exact rb_callVOR (As := [.int r_26, .int r_57]) (rest := []) C mr_X16_apply so_X2_118_X16_apply (hp_en_isC e_67) (ct_X16_apply Ev h_58 (((n + k_28) + k_42) + k_59) v_49 r_26 r_57 (f_enap v_49 1 r_26 r_57) rfl) rfl rfl (Nat.le_of_ble_eq_true rfl) ⟨by show 0 + 1 ≤ 12 + 2 * (d + 1); omega, by show 8 + (3 + 11) + 0 ≤ 400 + 80 * (d + 1); omega, hb.c0, hb.s0⟩ dX2_computed_62 rb_xXi (rb_kXi fun _ => rb_w (kc := (((0 + k_28) + k_42) + k_59)) (ks := (((0 + s_29) + s_43) + s_60)) rfl rfl kk_ap)
            · exact rb_callVOR (As := [.int r_26, .int r_57]) (rest := []) C mr_X17_apply so_X2_118_X17_apply (hp_en_isC e_67) (ct_X17_apply Ev h_58 (((n + k_28) + k_42) + k_59) v_49 r_26 r_57 (f_enap v_49 2 r_26 r_57) rfl) rfl rfl (Nat.le_of_ble_eq_true rfl) ⟨by show 0 + 1 ≤ 12 + 2 * (d + 1); omega, by show 8 + (3 + 11) + 0 ≤ 400 + 80 * (d + 1); omega, hb.c0, hb.s0⟩ dX2_computed_62 rb_xXi (rb_kXi fun _ => rb_w (kc := (((0 + k_28) + k_42) + k_59)) (ks := (((0 + s_29) + s_43) + s_60)) rfl rfl kk_ap)
            · exact rb_callVOR (As := [.int r_26, .int r_57]) (rest := []) C mr_X18_apply so_X2_118_X18_apply (hp_en_isC e_67) (ct_X18_apply Ev h_58 (((n + k_28) + k_42) + k_59) v_49 r_26 r_57 (f_enap v_49 3 r_26 r_57) rfl) rfl rfl (Nat.le_of_ble_eq_true rfl) ⟨by show 1 + 1 ≤ 12 + 2 * (d + 1); omega, by show 8 + (3 + 11) + 60 ≤ 400 + 80 * (d + 1); omega, hb.c0, hb.s0⟩ dX2_computed_62 rb_xXi (rb_kXi fun _ => rb_w (kc := (((0 + k_28) + k_42) + k_59)) (ks := (((0 + s_29) + s_43) + s_60)) rfl rfl kk_ap)
            · exact rb_callVOR (As := [.int r_26, .int r_57]) (rest := []) C mr_X19_apply so_X2_118_X19_apply (hp_en_isC e_67) (ct_X19_apply Ev h_58 (((n + k_28) + k_42) + k_59) v_49 r_26 r_57 (f_enap v_49 4 r_26 r_57) rfl) rfl rfl (Nat.le_of_ble_eq_true rfl) ⟨by show 1 + 1 ≤ 12 + 2 * (d + 1); omega, by show 8 + (3 + 11) + 60 ≤ 400 + 80 * (d + 1); omega, hb.c0, hb.s0⟩ dX2_computed_62 rb_xXi (rb_kXi fun _ => rb_w (kc := (((0 + k_28) + k_42) + k_59)) (ks := (((0 + s_29) + s_43) + s_60)) rfl rfl kk_ap)
            · exact rb_callVOR (As := [.int r_26, .int r_57]) (rest := []) C mr_X20_apply so_X2_118_X20_apply (hp_en_isC e_67) (ct_X20_apply Ev h_58 (((n + k_28) + k_42) + k_59) v_49 r_26 r_57 (f_enap v_49 5 r_26 r_57) rfl) rfl rfl (Nat.le_of_ble_eq_true rfl) ⟨by show 0 + 1 ≤ 12 + 2 * (d + 1); omega, by show 8 + (3 + 11) + 0 ≤ 400 + 80 * (d + 1); omega, hb.c0, hb.s0⟩ dX2_computed_62 rb_xXi (rb_kXi fun _ => rb_w (kc := (((0 + k_28) + k_42) + k_59)) (ks := (((0 + s_29) + s_43) + s_60)) rfl rfl kk_ap)
          cases hf
          exact rb_iret C rfl rfl hb.e.2.1 hb.e.2.2 dX2_computed_65 ⟨rfl, rfl, hb.e.1, rfl⟩
        · dsimp only at hf
          by_cases c_68 : E_50 = "java/lang/IllegalArgumentException"
          · have hf := (if_pos c_68).symm.trans hf
            subst c_68
            refine rb_callV (As := [.int v_35]) (rest := []) C mi_X2_meaningOf sv_X2_111 (hp_k_isC C.pf e_38 ck_X2) (ct_X2_meaningOf Ev h_27 (n + k_28) o v_35 (.inr ("java/lang/IllegalArgumentException", q_51)) _ _ _ e_44) rfl rfl (Nat.le_of_ble_eq_true rfl) ⟨by show 8 + 1 ≤ 12 + 2 * (d + 1); omega, by show 8 + (2 + 11) + 181 ≤ 400 + 80 * (d + 1); omega, Bd.c1 hb ea_45, Bd.s1 hb eb_46⟩ dX2_computed_50 (rb_xY (E := "java/lang/IllegalArgumentException") (rb_wX (kc := ((0 + k_28) + k_42)) (ks := ((0 + s_29) + s_43)) rfl rfl ?_)) rb_kY
            have hb := Bd.ade hb ea_45 eb_46
            cases hf
          have hf := (if_neg c_68).symm.trans hf
          cases hf
    · have hf := (if_neg c_3).symm.trans hf
      refine rb_aload_n C dX2_computed_7 rfl 1 rfl ?_
      obtain ⟨u_69, e_70, hf⟩ := rb_bd hf
      refine rb_hca C q1164 okp_RainbowOperators_Cloud e_70 dX2_computed_8 ?_
      refine rb_astore_n (lv' := [(2, .ref x1), (0, .ref o), (1, .ref x1)]) C dX2_computed_11 rfl (by decide) rfl ?_
      refine rb_aload_n C dX2_computed_12 rfl 1 rfl ?_
      refine rb_aload_n C dX2_computed_13 rfl 0 rfl ?_
      obtain ⟨v_71, e_72, hf⟩ := rb_bd hf
      refine rb_hP C fl_X2_90_X8 e_72 dX2_computed_14 ?_
      obtain ⟨u_73, e_74, hf⟩ := rb_bd hf
      obtain ⟨⟨r_76, h_77, k_78, s_79⟩, e_80, hf⟩ := rb_bd hf
      obtain ⟨a_83, b_84, hf, ea_81, eb_82⟩ := ad_at hf
      refine rb_callV (As := [.ref v_71]) (rest := []) C mi_X2_computed sv_X2_94 (hp_k_isC C.pf e_74 ck_X2) (ih h n o v_71 r_76 _ _ _ e_80) rfl rfl (Nat.le_of_ble_eq_true rfl) ⟨by show (12 + 2 * d) + 1 ≤ 12 + 2 * (d + 1); omega, by show 8 + (4 + 11) + (400 + 80 * d) ≤ 400 + 80 * (d + 1); omega, Bd.c1 hb ea_81, Bd.s1 hb eb_82⟩ dX2_computed_17 rb_xXi (rb_kXi fun hn_75 => (rb_w (kc := (0 + k_78)) (ks := (0 + s_79)) rfl rfl ?_))
      have hb := Bd.ade hb ea_81 eb_82
      refine rb_callSN (As := [.int r_76]) (rest := []) C mi_X1_clouded ss_X2_98 (ct_X1_clouded Ev h_77 (n + k_78) r_76 _ rfl) rfl rfl (Nat.le_of_ble_eq_true rfl) ⟨by show 0 + 1 ≤ 12 + 2 * (d + 1); omega, by show 8 + (1 + 11) + 0 ≤ 400 + 80 * (d + 1); omega, hb.c0, hb.s0⟩ dX2_computed_20 rb_xXi (rb_kXi fun hn_85 => (rb_w (kc := (0 + k_78)) (ks := (0 + s_79)) rfl rfl ?_))
      cases hf
      exact rb_iret C rfl rfl hb.e.2.1 hb.e.2.2 dX2_computed_23 ⟨rfl, rfl, hb.e.1, rfl⟩
def f_X2_keep (Ev : rb_E) (h : AH) (n : Nat) (o : Nat) (x1 : Int32) : Option ((Int32 ⊕ (String × Nat)) × AH × Nat × Nat) := ((f_X1_requireArgument Ev h n (f_X1_inRange x1 65 69)).bind fun (r_3, h_4, k_5, s_6) => (ad k_5 s_6 (match r_3 with | .inl v_12 => ((hp_k Ev h_4 o 1).bind fun u_15 => ((f_X2_tree Ev h_4 (n + k_5) o).bind fun (r_18, h_19, k_20, s_21) => (ad k_20 s_21 (match r_18 with | .inl v_27 => ((hp_k Ev h_19 o 1).bind fun u_30 => ((f_X2_computed Ev 30 h_19 ((n + k_5) + k_20) o v_27).bind fun (r_33, h_34, k_35, s_36) => (ad k_35 s_36 ((hp_p Ev h_34 o 1 4).bind fun v_42 => ((hp_il Ev h_34 v_42 (x1 - 65)).bind fun v_44 => ((hp_p Ev h_34 o 1 4).bind fun v_46 => ((hp_is Ev h_34 v_46 (x1 - 65) r_33).bind fun h_48 => (some (.inl v_44, h_48, 0, 0))))))))) | .inr (E_28, q_29) => (if E_28 = "RainbowOperators$Denial" then (some (.inr ("RainbowOperators$Denial", q_29), h_19, 0, 0)) else none))))) | .inr (E_13, q_14) => (if E_13 = "java/lang/IllegalArgumentException" then (some (.inr ("java/lang/IllegalArgumentException", q_14), h_4, 0, 0)) else none))))
abbrev rm_X2_keep (k s : Nat) : Room := { frames := 74, cells := k, slots := s, locals := 2845 }
set_option maxHeartbeats 4000000 in
theorem ct_X2_keep (Ev : rb_E) (h : AH) (n : Nat) (o : Nat) (x1 : Int32) (r : Int32 ⊕ (String × Nat)) (h' : AH) (k s : Nat) (hf : f_X2_keep Ev h n o x1 = some (r, h', k, s)) : Ct Ev yX2_keep (ws_ yX2_keep cX2_keep 4 (some .int)) (rm_X2_keep k s) [.ref o, .int x1] h n (pX (rMap (fun v => some (.int v)) r) h' (n + k)) := by
  rw [f_X2_keep] at hf
  refine Ct.of rfl (Nat.le_of_ble_eq_true rfl) fun X C hnm => ?_
  have C : Cx Ev X RX2 cX2_keep 4 (some .int) [] := C
  show Wa Ev X (rm_X2_keep k s) 4 h n 0 0 (rb_MQ Ev X (rm_X2_keep k s) (pX (rMap (fun v => some (.int v)) r) h' (n + k))) 0 [(0, .ref o), (1, .int x1)] []
  have hb : Bd (n + k) k s n 0 0 k s := ⟨rfl, Nat.le_of_eq (Nat.zero_add _), Nat.le_of_eq (Nat.zero_add _)⟩
  refine rb_iload_n C dX2_keep_0 rfl 1 rfl ?_
  refine rb_bipush (v := 65) C dX2_keep_1 rfl ?_
  refine rb_bipush (v := 69) C dX2_keep_3 rfl ?_
  refine rb_callSN (As := [.int x1, .int 65, .int 69]) (rest := []) C mi_X1_inRange ss_X2_84 (ct_X1_inRange Ev h n x1 65 69 _ rfl) rfl rfl (Nat.le_of_ble_eq_true rfl) ⟨Nat.le_of_ble_eq_true rfl, Nat.le_of_ble_eq_true rfl, hb.c0, hb.s0⟩ dX2_keep_5 rb_xXi (rb_kXi fun hn_1 => (rb_w (kc := 0) (ks := 0) rfl rfl ?_))
  obtain ⟨⟨r_3, h_4, k_5, s_6⟩, e_7, hf⟩ := rb_bd hf
  obtain ⟨a_10, b_11, hf, ea_8, eb_9⟩ := ad_at hf
  rcases r_3 with v_12 | ⟨E_13, q_14⟩
  · dsimp only at hf
    refine rb_callSN (As := [.int (f_X1_inRange x1 65 69)]) (rest := []) C mi_X1_requireArgument ss_X2_162 (ct_X1_requireArgument Ev h n (f_X1_inRange x1 65 69) (.inl v_12) _ _ _ e_7) rfl rfl (Nat.le_of_ble_eq_true rfl) ⟨Nat.le_of_ble_eq_true rfl, Nat.le_of_ble_eq_true rfl, Bd.c1 hb ea_8, Bd.s1 hb eb_9⟩ dX2_keep_8 rb_xX (rb_kX (r := none) (rb_w (kc := (0 + k_5)) (ks := (0 + s_6)) rfl rfl ?_))
    have hb := Bd.ade hb ea_8 eb_9
    refine rb_aload_n C dX2_keep_11 rfl 0 rfl ?_
    refine rb_aload_n C dX2_keep_12 rfl 0 rfl ?_
    obtain ⟨u_15, e_16, hf⟩ := rb_bd hf
    obtain ⟨⟨r_18, h_19, k_20, s_21⟩, e_22, hf⟩ := rb_bd hf
    obtain ⟨a_25, b_26, hf, ea_23, eb_24⟩ := ad_at hf
    rcases r_18 with v_27 | ⟨E_28, q_29⟩
    · dsimp only at hf
      refine rb_callV (As := []) (rest := [.ref o]) C mi_X2_tree sv_X2_191 (hp_k_isC C.pf e_16 ck_X2) (ct_X2_tree Ev h_4 (n + k_5) o (.inl v_27) _ _ _ e_22) rfl rfl (Nat.le_of_ble_eq_true rfl) ⟨Nat.le_of_ble_eq_true rfl, Nat.le_of_ble_eq_true rfl, Bd.c1 hb ea_23, Bd.s1 hb eb_24⟩ dX2_keep_13 rb_xX (rb_kX (r := some (.ref v_27)) (rb_w (kc := ((0 + k_5) + k_20)) (ks := ((0 + s_6) + s_21)) rfl rfl ?_))
      have hb := Bd.ade hb ea_23 eb_24
      obtain ⟨u_30, e_31, hf⟩ := rb_bd hf
      obtain ⟨⟨r_33, h_34, k_35, s_36⟩, e_37, hf⟩ := rb_bd hf
      obtain ⟨a_40, b_41, hf, ea_38, eb_39⟩ := ad_at hf
      refine rb_callV (As := [.ref v_27]) (rest := []) C mi_X2_computed sv_X2_94 (hp_k_isC C.pf e_31 ck_X2) (ct_X2_computed Ev h_19 ((n + k_5) + k_20) 30 o v_27 r_33 _ _ _ e_37) rfl rfl (Nat.le_of_ble_eq_true rfl) ⟨Nat.le_of_ble_eq_true rfl, Nat.le_of_ble_eq_true rfl, Bd.c1 hb ea_38, Bd.s1 hb eb_39⟩ dX2_keep_16 rb_xXi (rb_kXi fun hn_32 => (rb_w (kc := (((0 + k_5) + k_20) + k_35)) (ks := (((0 + s_6) + s_21) + s_36)) rfl rfl ?_))
      have hb := Bd.ade hb ea_38 eb_39
      refine rb_istore_n (lv' := [(2, .int r_33), (0, .ref o), (1, .int x1)]) C dX2_keep_19 rfl (by decide) rfl ?_
      refine rb_aload_n C dX2_keep_20 rfl 1 rfl ?_
      obtain ⟨v_42, e_43, hf⟩ := rb_bd hf
      refine rb_hP C fl_X2_51_X2 e_43 dX2_keep_21 ?_
      refine rb_iload_n C dX2_keep_24 rfl 2 rfl ?_
      refine rb_bipush (v := 65) C dX2_keep_25 rfl ?_
      refine rb_isub C dX2_keep_27 ?_
      obtain ⟨v_44, e_45, hf⟩ := rb_bd hf
      refine rb_hil C e_45 dX2_keep_28 ?_
      refine rb_istore_n (lv' := [(3, .int v_44), (2, .int r_33), (0, .ref o), (1, .int x1)]) C dX2_keep_29 rfl (by decide) rfl ?_
      refine rb_aload_n C dX2_keep_30 rfl 2 rfl ?_
      obtain ⟨v_46, e_47, hf⟩ := rb_bd hf
      refine rb_hP C fl_X2_51_X2 e_47 dX2_keep_31 ?_
      refine rb_iload_n C dX2_keep_34 rfl 3 rfl ?_
      refine rb_bipush (v := 65) C dX2_keep_35 rfl ?_
      refine rb_isub C dX2_keep_37 ?_
      refine rb_iload_n C dX2_keep_38 rfl 1 rfl ?_
      obtain ⟨h_48, e_49, hf⟩ := rb_bd hf
      refine rb_his C e_49 dX2_keep_39 ?_
      refine rb_iload_n C dX2_keep_40 rfl 0 rfl ?_
      cases hf
      exact rb_iret C rfl rfl hb.e.2.1 hb.e.2.2 dX2_keep_41 ⟨rfl, rfl, hb.e.1⟩
    · dsimp only at hf
      by_cases c_50 : E_28 = "RainbowOperators$Denial"
      · have hf := (if_pos c_50).symm.trans hf
        subst c_50
        refine rb_callV (As := []) (rest := [.ref o]) C mi_X2_tree sv_X2_191 (hp_k_isC C.pf e_16 ck_X2) (ct_X2_tree Ev h_4 (n + k_5) o (.inr ("RainbowOperators$Denial", q_29)) _ _ _ e_22) rfl rfl (Nat.le_of_ble_eq_true rfl) ⟨Nat.le_of_ble_eq_true rfl, Nat.le_of_ble_eq_true rfl, Bd.c1 hb ea_23, Bd.s1 hb eb_24⟩ dX2_keep_13 (rb_xY (E := "RainbowOperators$Denial") (rb_wX (kc := ((0 + k_5) + k_20)) (ks := ((0 + s_6) + s_21)) rfl rfl ?_)) rb_kY
        have hb := Bd.ade hb ea_23 eb_24
        cases hf
        exact rb_out C (fun _ z => absurd z List.not_mem_nil) hb.e.2.1 hb.e.2.2 ⟨rfl, rfl, hb.e.1⟩
      have hf := (if_neg c_50).symm.trans hf
      cases hf
  · dsimp only at hf
    by_cases c_51 : E_13 = "java/lang/IllegalArgumentException"
    · have hf := (if_pos c_51).symm.trans hf
      subst c_51
      refine rb_callSN (As := [.int (f_X1_inRange x1 65 69)]) (rest := []) C mi_X1_requireArgument ss_X2_162 (ct_X1_requireArgument Ev h n (f_X1_inRange x1 65 69) (.inr ("java/lang/IllegalArgumentException", q_14)) _ _ _ e_7) rfl rfl (Nat.le_of_ble_eq_true rfl) ⟨Nat.le_of_ble_eq_true rfl, Nat.le_of_ble_eq_true rfl, Bd.c1 hb ea_8, Bd.s1 hb eb_9⟩ dX2_keep_8 (rb_xY (E := "java/lang/IllegalArgumentException") (rb_wX (kc := (0 + k_5)) (ks := (0 + s_6)) rfl rfl ?_)) rb_kY
      have hb := Bd.ade hb ea_8 eb_9
      cases hf
      exact rb_out C (fun _ z => absurd z List.not_mem_nil) hb.e.2.1 hb.e.2.2 ⟨rfl, rfl, hb.e.1⟩
    have hf := (if_neg c_51).symm.trans hf
    cases hf
def f_X5_apply_j149_15 (Ev : rb_E) (o : Nat) (x1 : Nat) (n : Nat) (h_7 : AH) (k_8 : Nat) (y3_j149_15 : Int32) : Option ((Int32 ⊕ (String × Nat)) × AH × Nat × Nat) := (if y3_j149_15 = 0 then ((hp_p Ev h_7 o 3 1).bind fun v_17 => ((hp_k Ev h_7 x1 1).bind fun u_19 => ((f_X2_putAll Ev h_7 (n + k_8) x1 v_17).bind fun (r_22, h_23, k_24, s_25) => (ad k_24 s_25 (match r_22 with | .inl v_31 => (some (.inl v_31, h_23, 0, 0)) | .inr (E_32, q_33) => (if E_32 = "RainbowOperators$Denial" then (some (.inr ("RainbowOperators$Denial", q_33), h_23, 0, 0)) else (if E_32 = "java/lang/IllegalArgumentException" then (some (.inr ("java/lang/IllegalArgumentException", q_33), h_23, 0, 0)) else none))))))) else (if y3_j149_15 = 1 then ((hp_k Ev h_7 x1 1).bind fun u_37 => ((f_X2_erase Ev h_7 (n + k_8) x1).bind fun (r_40, h_41, k_42, s_43) => (ad k_42 s_43 (match r_40 with | .inl v_49 => (some (.inl v_49, h_41, 0, 0)) | .inr (E_50, q_51) => (if E_50 = "RainbowOperators$Denial" then (some (.inr ("RainbowOperators$Denial", q_51), h_41, 0, 0)) else none))))) else (if y3_j149_15 = 2 then ((hp_k Ev h_7 x1 1).bind fun u_54 => ((f_X2_clear Ev h_7 (n + k_8) x1).bind fun (r_57, h_58, k_59, s_60) => (ad k_59 s_60 (some (.inl r_57, h_58, 0, 0))))) else (if y3_j149_15 = 3 then ((hp_p Ev h_7 o 3 1).bind fun v_67 => ((hp_k Ev h_7 v_67 14).bind fun u_69 => ((f_J2_charAt Ev h_7 v_67 0).bind fun v_72 => ((hp_i Ev h_7 o 3 2).bind fun v_74 => ((hp_k Ev h_7 x1 1).bind fun u_76 => ((f_X2_setColour Ev h_7 (n + k_8) x1 v_72 v_74).bind fun (r_79, h_80, k_81, s_82) => (ad k_81 s_82 (match r_79 with | .inl v_88 => (some (.inl v_88, h_80, 0, 0)) | .inr (E_89, q_90) => (if E_89 = "java/lang/IllegalArgumentException" then (some (.inr ("java/lang/IllegalArgumentException", q_90), h_80, 0, 0)) else none))))))))) else (if y3_j149_15 = 4 then ((hp_p Ev h_7 o 3 1).bind fun v_93 => ((hp_k Ev h_7 v_93 14).bind fun u_95 => ((f_J2_charAt Ev h_7 v_93 0).bind fun v_98 => ((hp_p Ev h_7 o 3 1).bind fun v_100 => ((hp_k Ev h_7 v_100 14).bind fun u_102 => ((f_J2_charAt Ev h_7 v_100 1).bind fun v_105 => ((hp_k Ev h_7 x1 1).bind fun u_107 => ((f_X2_setMeaning Ev h_7 (n + k_8) x1 v_98 v_105).bind fun (r_110, h_111, k_112, s_113) => (ad k_112 s_113 (match r_110 with | .inl v_119 => (some (.inl v_119, h_111, 0, 0)) | .inr (E_120, q_121) => (if E_120 = "java/lang/IllegalArgumentException" then (some (.inr ("java/lang/IllegalArgumentException", q_121), h_111, 0, 0)) else none))))))))))) else (if y3_j149_15 = 5 then ((hp_i Ev h_7 o 3 2).bind fun v_124 => ((hp_k Ev h_7 x1 1).bind fun u_126 => ((f_X2_turnStorm Ev h_7 (n + k_8) x1 v_124).bind fun (r_129, h_130, k_131, s_132) => (ad k_131 s_132 (match r_129 with | .inl v_138 => (some (.inl v_138, h_130, 0, 0)) | .inr (E_139, q_140) => (if E_139 = "java/lang/IndexOutOfBoundsException" then (some (.inr ("java/lang/IndexOutOfBoundsException", q_140), h_130, 0, 0)) else none)))))) else ((hp_p Ev h_7 o 3 1).bind fun v_142 => ((hp_k Ev h_7 v_142 14).bind fun u_144 => ((f_J2_charAt Ev h_7 v_142 0).bind fun v_147 => ((hp_k Ev h_7 x1 1).bind fun u_149 => ((f_X2_keep Ev h_7 (n + k_8) x1 v_147).bind fun (r_152, h_153, k_154, s_155) => (ad k_154 s_155 (match r_152 with | .inl v_161 => (some (.inl v_161, h_153, 0, 0)) | .inr (E_162, q_163) => (if E_162 = "RainbowOperators$Denial" then (some (.inr ("RainbowOperators$Denial", q_163), h_153, 0, 0)) else (if E_162 = "java/lang/IllegalArgumentException" then (some (.inr ("java/lang/IllegalArgumentException", q_163), h_153, 0, 0)) else none)))))))))))))))
def f_X5_apply (Ev : rb_E) (h : AH) (n : Nat) (o : Nat) (x1 : Nat) : Option ((Int32 ⊕ (String × Nat)) × AH × Nat × Nat) := ((hp_p Ev h o 3 0).bind fun v_1 => ((hp_k Ev h v_1 14).bind fun u_3 => ((f_J2_hashCode Ev h n v_1).bind fun (r_6, h_7, k_8, s_9) => (ad k_8 s_9 (if r_6 = (-1354842676) then ((hp_k Ev h_7 v_1 14).bind fun u_167 => ((f_J2_equals Ev h_7 v_1 (eS Ev RX5 36)).bind fun v_170 => (if v_170 = 0 then (f_X5_apply_j149_15 Ev o x1 n h_7 k_8 (-1)) else (f_X5_apply_j149_15 Ev o x1 n h_7 k_8 3)))) else (if r_6 = 111375 then ((hp_k Ev h_7 v_1 14).bind fun u_174 => ((f_J2_equals Ev h_7 v_1 (eS Ev RX5 26)).bind fun v_177 => (if v_177 = 0 then (f_X5_apply_j149_15 Ev o x1 n h_7 k_8 (-1)) else (f_X5_apply_j149_15 Ev o x1 n h_7 k_8 0)))) else (if r_6 = 3347397 then ((hp_k Ev h_7 v_1 14).bind fun u_181 => ((f_J2_equals Ev h_7 v_1 (eS Ev RX5 38)).bind fun v_184 => (if v_184 = 0 then (f_X5_apply_j149_15 Ev o x1 n h_7 k_8 (-1)) else (f_X5_apply_j149_15 Ev o x1 n h_7 k_8 4)))) else (if r_6 = 94746189 then ((hp_k Ev h_7 v_1 14).bind fun u_188 => ((f_J2_equals Ev h_7 v_1 (eS Ev RX5 34)).bind fun v_191 => (if v_191 = 0 then (f_X5_apply_j149_15 Ev o x1 n h_7 k_8 (-1)) else (f_X5_apply_j149_15 Ev o x1 n h_7 k_8 2)))) else (if r_6 = 96768678 then ((hp_k Ev h_7 v_1 14).bind fun u_195 => ((f_J2_equals Ev h_7 v_1 (eS Ev RX5 32)).bind fun v_198 => (if v_198 = 0 then (f_X5_apply_j149_15 Ev o x1 n h_7 k_8 (-1)) else (f_X5_apply_j149_15 Ev o x1 n h_7 k_8 1)))) else (if r_6 = 109770985 then ((hp_k Ev h_7 v_1 14).bind fun u_202 => ((f_J2_equals Ev h_7 v_1 (eS Ev RX5 40)).bind fun v_205 => (if v_205 = 0 then (f_X5_apply_j149_15 Ev o x1 n h_7 k_8 (-1)) else (f_X5_apply_j149_15 Ev o x1 n h_7 k_8 5)))) else (f_X5_apply_j149_15 Ev o x1 n h_7 k_8 (-1))))))))))))
abbrev rm_X5_apply (k s : Nat) : Room := { frames := 75, cells := k, slots := s, locals := 2868 }
set_option maxHeartbeats 4000000 in
theorem ct_X5_apply (Ev : rb_E) (h : AH) (n : Nat) (o : Nat) (x1 : Nat) (r : Int32 ⊕ (String × Nat)) (h' : AH) (k s : Nat) (hf : f_X5_apply Ev h n o x1 = some (r, h', k, s)) : Ct Ev yX5_apply (ws_ yX5_apply cX5_apply 4 (some .int)) (rm_X5_apply k s) [.ref o, .ref x1] h n (pX (rMap (fun v => some (.int v)) r) h' (n + k)) := by
  rw [f_X5_apply] at hf
  refine Ct.of rfl (Nat.le_of_ble_eq_true rfl) fun X C hnm => ?_
  have C : Cx Ev X RX5 cX5_apply 4 (some .int) [] := C
  show Wa Ev X (rm_X5_apply k s) 4 h n 0 0 (rb_MQ Ev X (rm_X5_apply k s) (pX (rMap (fun v => some (.int v)) r) h' (n + k))) 0 [(0, .ref o), (1, .ref x1)] []
  have hb : Bd (n + k) k s n 0 0 k s := ⟨rfl, Nat.le_of_eq (Nat.zero_add _), Nat.le_of_eq (Nat.zero_add _)⟩
  refine rb_aload_n C dX5_apply_0 rfl 0 rfl ?_
  obtain ⟨v_1, e_2, hf⟩ := rb_bd hf
  refine rb_hP C fl_X5_7_X5 e_2 dX5_apply_1 ?_
  refine rb_astore_n (lv' := [(2, .ref v_1), (0, .ref o), (1, .ref x1)]) C dX5_apply_4 rfl (by decide) rfl ?_
  refine rb_iconst (v := (-1)) C dX5_apply_5 rfl ?_
  refine rb_istore_n (lv' := [(3, .int (-1)), (2, .ref v_1), (0, .ref o), (1, .ref x1)]) C dX5_apply_6 rfl (by decide) rfl ?_
  refine rb_aload_n C dX5_apply_7 rfl 1 rfl ?_
  obtain ⟨u_3, e_4, hf⟩ := rb_bd hf
  obtain ⟨⟨r_6, h_7, k_8, s_9⟩, e_10, hf⟩ := rb_bd hf
  obtain ⟨a_13, b_14, hf, ea_11, eb_12⟩ := ad_at hf
  refine rb_callV (As := []) (rest := []) C mi_J2_hashCode sv_X5_20 (hp_k_isC C.pf e_4 ck_J2) (ct_J2_hashCode Ev h n v_1 r_6 _ _ _ e_10) rfl rfl (Nat.le_of_ble_eq_true rfl) ⟨Nat.le_of_ble_eq_true rfl, Nat.le_of_ble_eq_true rfl, Bd.c1 hb ea_11, Bd.s1 hb eb_12⟩ dX5_apply_8 rb_xXi (rb_kXi fun hn_5 => (rb_w (kc := (0 + k_8)) (ks := (0 + s_9)) rfl rfl ?_))
  have hb := Bd.ade hb ea_11 eb_12
  have J_j149_15 : ∀ (y3_j149_15 : Int32) (kc_j149_15 ks_j149_15 a_ b_ : Nat), f_X5_apply_j149_15 Ev o x1 n h_7 k_8 y3_j149_15 = some (r, h', a_, b_) → Bd (n + k) k s (n + k_8) kc_j149_15 ks_j149_15 a_ b_ → Wa Ev X (rm_X5_apply k s) 4 h_7 (n + k_8) kc_j149_15 ks_j149_15 (rb_MQ Ev X (rm_X5_apply k s) (pX (rMap (fun v => some (.int v)) r) h' (n + k))) 149 [(0, .ref o), (1, .ref x1), (2, .ref v_1), (3, .int y3_j149_15)] [] := by
    intro y3_j149_15 kc_j149_15 ks_j149_15 a_ b_ hf hb
    rw [f_X5_apply_j149_15] at hf
    refine rb_iload_n C dX5_apply_149 rfl 3 rfl ?_
    by_cases c_16 : y3_j149_15 = 0
    · have hf := (if_pos c_16).symm.trans hf
      refine rb_top (.int 0) (by rw [c_16]) ?_
      refine rb_tableIn (tgt := 188) C dX5_apply_150 (by decide) (by decide) (off := 38) (by decide) (by decide) ?_
      refine rb_aload_n C dX5_apply_188 rfl 1 rfl ?_
      refine rb_aload_n C dX5_apply_189 rfl 0 rfl ?_
      obtain ⟨v_17, e_18, hf⟩ := rb_bd hf
      refine rb_hP C fl_X5_13_X5 e_18 dX5_apply_190 ?_
      obtain ⟨u_19, e_20, hf⟩ := rb_bd hf
      obtain ⟨⟨r_22, h_23, k_24, s_25⟩, e_26, hf⟩ := rb_bd hf
      obtain ⟨a_29, b_30, hf, ea_27, eb_28⟩ := ad_at hf
      rcases r_22 with v_31 | ⟨E_32, q_33⟩
      · dsimp only at hf
        refine rb_callV (As := [.ref v_17]) (rest := []) C mi_X2_putAll sv_X5_42 (hp_k_isC C.pf e_20 ck_X2) (ct_X2_putAll Ev h_7 (n + k_8) x1 v_17 (.inl v_31) _ _ _ e_26) rfl rfl (Nat.le_of_ble_eq_true rfl) ⟨Nat.le_of_ble_eq_true rfl, Nat.le_of_ble_eq_true rfl, Bd.c1 hb ea_27, Bd.s1 hb eb_28⟩ dX5_apply_193 rb_xX (rb_kX (r := some (.int v_31)) (rb_w (kc := (kc_j149_15 + k_24)) (ks := (ks_j149_15 + s_25)) rfl rfl ?_))
        have hb := Bd.ade hb ea_27 eb_28
        refine rb_goto (tgt := 278) C dX5_apply_196 (by decide) ?_
        cases hf
        exact rb_iret C rfl rfl hb.e.2.1 hb.e.2.2 dX5_apply_278 ⟨rfl, rfl, hb.e.1⟩
      · dsimp only at hf
        by_cases c_34 : E_32 = "RainbowOperators$Denial"
        · have hf := (if_pos c_34).symm.trans hf
          subst c_34
          refine rb_callV (As := [.ref v_17]) (rest := []) C mi_X2_putAll sv_X5_42 (hp_k_isC C.pf e_20 ck_X2) (ct_X2_putAll Ev h_7 (n + k_8) x1 v_17 (.inr ("RainbowOperators$Denial", q_33)) _ _ _ e_26) rfl rfl (Nat.le_of_ble_eq_true rfl) ⟨Nat.le_of_ble_eq_true rfl, Nat.le_of_ble_eq_true rfl, Bd.c1 hb ea_27, Bd.s1 hb eb_28⟩ dX5_apply_193 (rb_xY (E := "RainbowOperators$Denial") (rb_wX (kc := (kc_j149_15 + k_24)) (ks := (ks_j149_15 + s_25)) rfl rfl ?_)) rb_kY
          have hb := Bd.ade hb ea_27 eb_28
          cases hf
          exact rb_out C (fun _ z => absurd z List.not_mem_nil) hb.e.2.1 hb.e.2.2 ⟨rfl, rfl, hb.e.1⟩
        have hf := (if_neg c_34).symm.trans hf
        by_cases c_35 : E_32 = "java/lang/IllegalArgumentException"
        · have hf := (if_pos c_35).symm.trans hf
          subst c_35
          refine rb_callV (As := [.ref v_17]) (rest := []) C mi_X2_putAll sv_X5_42 (hp_k_isC C.pf e_20 ck_X2) (ct_X2_putAll Ev h_7 (n + k_8) x1 v_17 (.inr ("java/lang/IllegalArgumentException", q_33)) _ _ _ e_26) rfl rfl (Nat.le_of_ble_eq_true rfl) ⟨Nat.le_of_ble_eq_true rfl, Nat.le_of_ble_eq_true rfl, Bd.c1 hb ea_27, Bd.s1 hb eb_28⟩ dX5_apply_193 (rb_xY (E := "java/lang/IllegalArgumentException") (rb_wX (kc := (kc_j149_15 + k_24)) (ks := (ks_j149_15 + s_25)) rfl rfl ?_)) rb_kY
          have hb := Bd.ade hb ea_27 eb_28
          cases hf
          exact rb_out C (fun _ z => absurd z List.not_mem_nil) hb.e.2.1 hb.e.2.2 ⟨rfl, rfl, hb.e.1⟩
        have hf := (if_neg c_35).symm.trans hf
        cases hf
    have hf := (if_neg c_16).symm.trans hf
    by_cases c_36 : y3_j149_15 = 1
    · have hf := (if_pos c_36).symm.trans hf
      refine rb_top (.int 1) (by rw [c_36]) ?_
      refine rb_tableIn (tgt := 199) C dX5_apply_150 (by decide) (by decide) (off := 49) (by decide) (by decide) ?_
      refine rb_aload_n C dX5_apply_199 rfl 1 rfl ?_
      obtain ⟨u_37, e_38, hf⟩ := rb_bd hf
      obtain ⟨⟨r_40, h_41, k_42, s_43⟩, e_44, hf⟩ := rb_bd hf
      obtain ⟨a_47, b_48, hf, ea_45, eb_46⟩ := ad_at hf
      rcases r_40 with v_49 | ⟨E_50, q_51⟩
      · dsimp only at hf
        refine rb_callV (As := []) (rest := []) C mi_X2_erase sv_X5_48 (hp_k_isC C.pf e_38 ck_X2) (ct_X2_erase Ev h_7 (n + k_8) x1 (.inl v_49) _ _ _ e_44) rfl rfl (Nat.le_of_ble_eq_true rfl) ⟨Nat.le_of_ble_eq_true rfl, Nat.le_of_ble_eq_true rfl, Bd.c1 hb ea_45, Bd.s1 hb eb_46⟩ dX5_apply_200 rb_xX (rb_kX (r := some (.int v_49)) (rb_w (kc := (kc_j149_15 + k_42)) (ks := (ks_j149_15 + s_43)) rfl rfl ?_))
        have hb := Bd.ade hb ea_45 eb_46
        refine rb_goto (tgt := 278) C dX5_apply_203 (by decide) ?_
        cases hf
        exact rb_iret C rfl rfl hb.e.2.1 hb.e.2.2 dX5_apply_278 ⟨rfl, rfl, hb.e.1⟩
      · dsimp only at hf
        by_cases c_52 : E_50 = "RainbowOperators$Denial"
        · have hf := (if_pos c_52).symm.trans hf
          subst c_52
          refine rb_callV (As := []) (rest := []) C mi_X2_erase sv_X5_48 (hp_k_isC C.pf e_38 ck_X2) (ct_X2_erase Ev h_7 (n + k_8) x1 (.inr ("RainbowOperators$Denial", q_51)) _ _ _ e_44) rfl rfl (Nat.le_of_ble_eq_true rfl) ⟨Nat.le_of_ble_eq_true rfl, Nat.le_of_ble_eq_true rfl, Bd.c1 hb ea_45, Bd.s1 hb eb_46⟩ dX5_apply_200 (rb_xY (E := "RainbowOperators$Denial") (rb_wX (kc := (kc_j149_15 + k_42)) (ks := (ks_j149_15 + s_43)) rfl rfl ?_)) rb_kY
          have hb := Bd.ade hb ea_45 eb_46
          cases hf
          exact rb_out C (fun _ z => absurd z List.not_mem_nil) hb.e.2.1 hb.e.2.2 ⟨rfl, rfl, hb.e.1⟩
        have hf := (if_neg c_52).symm.trans hf
        cases hf
    have hf := (if_neg c_36).symm.trans hf
    by_cases c_53 : y3_j149_15 = 2
    · have hf := (if_pos c_53).symm.trans hf
      refine rb_top (.int 2) (by rw [c_53]) ?_
      refine rb_tableIn (tgt := 206) C dX5_apply_150 (by decide) (by decide) (off := 56) (by decide) (by decide) ?_
      refine rb_aload_n C dX5_apply_206 rfl 1 rfl ?_
      obtain ⟨u_54, e_55, hf⟩ := rb_bd hf
      obtain ⟨⟨r_57, h_58, k_59, s_60⟩, e_61, hf⟩ := rb_bd hf
      obtain ⟨a_64, b_65, hf, ea_62, eb_63⟩ := ad_at hf
      refine rb_callV (As := []) (rest := []) C mi_X2_clear sv_X5_50 (hp_k_isC C.pf e_55 ck_X2) (ct_X2_clear Ev h_7 (n + k_8) x1 r_57 _ _ _ e_61) rfl rfl (Nat.le_of_ble_eq_true rfl) ⟨Nat.le_of_ble_eq_true rfl, Nat.le_of_ble_eq_true rfl, Bd.c1 hb ea_62, Bd.s1 hb eb_63⟩ dX5_apply_207 rb_xXi (rb_kXi fun hn_56 => (rb_w (kc := (kc_j149_15 + k_59)) (ks := (ks_j149_15 + s_60)) rfl rfl ?_))
      have hb := Bd.ade hb ea_62 eb_63
      refine rb_goto (tgt := 278) C dX5_apply_210 (by decide) ?_
      cases hf
      exact rb_iret C rfl rfl hb.e.2.1 hb.e.2.2 dX5_apply_278 ⟨rfl, rfl, hb.e.1⟩
    have hf := (if_neg c_53).symm.trans hf
    by_cases c_66 : y3_j149_15 = 3
    · have hf := (if_pos c_66).symm.trans hf
      refine rb_top (.int 3) (by rw [c_66]) ?_
      refine rb_tableIn (tgt := 213) C dX5_apply_150 (by decide) (by decide) (off := 63) (by decide) (by decide) ?_
      refine rb_aload_n C dX5_apply_213 rfl 1 rfl ?_
      refine rb_aload_n C dX5_apply_214 rfl 0 rfl ?_
      obtain ⟨v_67, e_68, hf⟩ := rb_bd hf
      refine rb_hP C fl_X5_13_X5 e_68 dX5_apply_215 ?_
      refine rb_iconst (v := 0) C dX5_apply_218 rfl ?_
      obtain ⟨u_69, e_70, hf⟩ := rb_bd hf
      obtain ⟨v_72, e_73, hf⟩ := rb_bd hf
      refine rb_callV (As := [.int 0]) (rest := [.ref x1]) C mi_J2_charAt sv_X5_52 (hp_k_isC C.pf e_70 ck_J2) (ct_J2_charAt Ev h_7 (n + k_8) v_67 0 _ e_73) rfl rfl (Nat.le_of_ble_eq_true rfl) ⟨Nat.le_of_ble_eq_true rfl, Nat.le_of_ble_eq_true rfl, hb.c0, hb.s0⟩ dX5_apply_219 rb_xXi (rb_kXi fun hn_71 => (rb_w (kc := kc_j149_15) (ks := ks_j149_15) rfl rfl ?_))
      refine rb_aload_n C dX5_apply_222 rfl 0 rfl ?_
      obtain ⟨v_74, e_75, hf⟩ := rb_bd hf
      refine rb_hI C fl_X5_16_X5 e_75 dX5_apply_223 ?_
      obtain ⟨u_76, e_77, hf⟩ := rb_bd hf
      obtain ⟨⟨r_79, h_80, k_81, s_82⟩, e_83, hf⟩ := rb_bd hf
      obtain ⟨a_86, b_87, hf, ea_84, eb_85⟩ := ad_at hf
      rcases r_79 with v_88 | ⟨E_89, q_90⟩
      · dsimp only at hf
        refine rb_callV (As := [.int v_72, .int v_74]) (rest := []) C mi_X2_setColour sv_X5_56 (hp_k_isC C.pf e_77 ck_X2) (ct_X2_setColour Ev h_7 (n + k_8) x1 v_72 v_74 (.inl v_88) _ _ _ e_83) rfl rfl (Nat.le_of_ble_eq_true rfl) ⟨Nat.le_of_ble_eq_true rfl, Nat.le_of_ble_eq_true rfl, Bd.c1 hb ea_84, Bd.s1 hb eb_85⟩ dX5_apply_226 rb_xX (rb_kX (r := some (.int v_88)) (rb_w (kc := (kc_j149_15 + k_81)) (ks := (ks_j149_15 + s_82)) rfl rfl ?_))
        have hb := Bd.ade hb ea_84 eb_85
        refine rb_goto (tgt := 278) C dX5_apply_229 (by decide) ?_
        cases hf
        exact rb_iret C rfl rfl hb.e.2.1 hb.e.2.2 dX5_apply_278 ⟨rfl, rfl, hb.e.1⟩
      · dsimp only at hf
        by_cases c_91 : E_89 = "java/lang/IllegalArgumentException"
        · have hf := (if_pos c_91).symm.trans hf
          subst c_91
          refine rb_callV (As := [.int v_72, .int v_74]) (rest := []) C mi_X2_setColour sv_X5_56 (hp_k_isC C.pf e_77 ck_X2) (ct_X2_setColour Ev h_7 (n + k_8) x1 v_72 v_74 (.inr ("java/lang/IllegalArgumentException", q_90)) _ _ _ e_83) rfl rfl (Nat.le_of_ble_eq_true rfl) ⟨Nat.le_of_ble_eq_true rfl, Nat.le_of_ble_eq_true rfl, Bd.c1 hb ea_84, Bd.s1 hb eb_85⟩ dX5_apply_226 (rb_xY (E := "java/lang/IllegalArgumentException") (rb_wX (kc := (kc_j149_15 + k_81)) (ks := (ks_j149_15 + s_82)) rfl rfl ?_)) rb_kY
          have hb := Bd.ade hb ea_84 eb_85
          cases hf
          exact rb_out C (fun _ z => absurd z List.not_mem_nil) hb.e.2.1 hb.e.2.2 ⟨rfl, rfl, hb.e.1⟩
        have hf := (if_neg c_91).symm.trans hf
        cases hf
    have hf := (if_neg c_66).symm.trans hf
    by_cases c_92 : y3_j149_15 = 4
    · have hf := (if_pos c_92).symm.trans hf
      refine rb_top (.int 4) (by rw [c_92]) ?_
      refine rb_tableIn (tgt := 232) C dX5_apply_150 (by decide) (by decide) (off := 82) (by decide) (by decide) ?_
      refine rb_aload_n C dX5_apply_232 rfl 1 rfl ?_
      refine rb_aload_n C dX5_apply_233 rfl 0 rfl ?_
      obtain ⟨v_93, e_94, hf⟩ := rb_bd hf
      refine rb_hP C fl_X5_13_X5 e_94 dX5_apply_234 ?_
      refine rb_iconst (v := 0) C dX5_apply_237 rfl ?_
      obtain ⟨u_95, e_96, hf⟩ := rb_bd hf
      obtain ⟨v_98, e_99, hf⟩ := rb_bd hf
      refine rb_callV (As := [.int 0]) (rest := [.ref x1]) C mi_J2_charAt sv_X5_52 (hp_k_isC C.pf e_96 ck_J2) (ct_J2_charAt Ev h_7 (n + k_8) v_93 0 _ e_99) rfl rfl (Nat.le_of_ble_eq_true rfl) ⟨Nat.le_of_ble_eq_true rfl, Nat.le_of_ble_eq_true rfl, hb.c0, hb.s0⟩ dX5_apply_238 rb_xXi (rb_kXi fun hn_97 => (rb_w (kc := kc_j149_15) (ks := ks_j149_15) rfl rfl ?_))
      refine rb_aload_n C dX5_apply_241 rfl 0 rfl ?_
      obtain ⟨v_100, e_101, hf⟩ := rb_bd hf
      refine rb_hP C fl_X5_13_X5 e_101 dX5_apply_242 ?_
      refine rb_iconst (v := 1) C dX5_apply_245 rfl ?_
      obtain ⟨u_102, e_103, hf⟩ := rb_bd hf
      obtain ⟨v_105, e_106, hf⟩ := rb_bd hf
      refine rb_callV (As := [.int 1]) (rest := [.int v_98, .ref x1]) C mi_J2_charAt sv_X5_52 (hp_k_isC C.pf e_103 ck_J2) (ct_J2_charAt Ev h_7 (n + k_8) v_100 1 _ e_106) rfl rfl (Nat.le_of_ble_eq_true rfl) ⟨Nat.le_of_ble_eq_true rfl, Nat.le_of_ble_eq_true rfl, hb.c0, hb.s0⟩ dX5_apply_246 rb_xXi (rb_kXi fun hn_104 => (rb_w (kc := kc_j149_15) (ks := ks_j149_15) rfl rfl ?_))
      obtain ⟨u_107, e_108, hf⟩ := rb_bd hf
      obtain ⟨⟨r_110, h_111, k_112, s_113⟩, e_114, hf⟩ := rb_bd hf
      obtain ⟨a_117, b_118, hf, ea_115, eb_116⟩ := ad_at hf
      rcases r_110 with v_119 | ⟨E_120, q_121⟩
      · dsimp only at hf
        refine rb_callV (As := [.int v_98, .int v_105]) (rest := []) C mi_X2_setMeaning sv_X5_60 (hp_k_isC C.pf e_108 ck_X2) (ct_X2_setMeaning Ev h_7 (n + k_8) x1 v_98 v_105 (.inl v_119) _ _ _ e_114) rfl rfl (Nat.le_of_ble_eq_true rfl) ⟨Nat.le_of_ble_eq_true rfl, Nat.le_of_ble_eq_true rfl, Bd.c1 hb ea_115, Bd.s1 hb eb_116⟩ dX5_apply_249 rb_xX (rb_kX (r := some (.int v_119)) (rb_w (kc := (kc_j149_15 + k_112)) (ks := (ks_j149_15 + s_113)) rfl rfl ?_))
        have hb := Bd.ade hb ea_115 eb_116
        refine rb_goto (tgt := 278) C dX5_apply_252 (by decide) ?_
        cases hf
        exact rb_iret C rfl rfl hb.e.2.1 hb.e.2.2 dX5_apply_278 ⟨rfl, rfl, hb.e.1⟩
      · dsimp only at hf
        by_cases c_122 : E_120 = "java/lang/IllegalArgumentException"
        · have hf := (if_pos c_122).symm.trans hf
          subst c_122
          refine rb_callV (As := [.int v_98, .int v_105]) (rest := []) C mi_X2_setMeaning sv_X5_60 (hp_k_isC C.pf e_108 ck_X2) (ct_X2_setMeaning Ev h_7 (n + k_8) x1 v_98 v_105 (.inr ("java/lang/IllegalArgumentException", q_121)) _ _ _ e_114) rfl rfl (Nat.le_of_ble_eq_true rfl) ⟨Nat.le_of_ble_eq_true rfl, Nat.le_of_ble_eq_true rfl, Bd.c1 hb ea_115, Bd.s1 hb eb_116⟩ dX5_apply_249 (rb_xY (E := "java/lang/IllegalArgumentException") (rb_wX (kc := (kc_j149_15 + k_112)) (ks := (ks_j149_15 + s_113)) rfl rfl ?_)) rb_kY
          have hb := Bd.ade hb ea_115 eb_116
          cases hf
          exact rb_out C (fun _ z => absurd z List.not_mem_nil) hb.e.2.1 hb.e.2.2 ⟨rfl, rfl, hb.e.1⟩
        have hf := (if_neg c_122).symm.trans hf
        cases hf
    have hf := (if_neg c_92).symm.trans hf
    by_cases c_123 : y3_j149_15 = 5
    · have hf := (if_pos c_123).symm.trans hf
      refine rb_top (.int 5) (by rw [c_123]) ?_
      refine rb_tableIn (tgt := 255) C dX5_apply_150 (by decide) (by decide) (off := 105) (by decide) (by decide) ?_
      refine rb_aload_n C dX5_apply_255 rfl 1 rfl ?_
      refine rb_aload_n C dX5_apply_256 rfl 0 rfl ?_
      obtain ⟨v_124, e_125, hf⟩ := rb_bd hf
      refine rb_hI C fl_X5_16_X5 e_125 dX5_apply_257 ?_
      obtain ⟨u_126, e_127, hf⟩ := rb_bd hf
      obtain ⟨⟨r_129, h_130, k_131, s_132⟩, e_133, hf⟩ := rb_bd hf
      obtain ⟨a_136, b_137, hf, ea_134, eb_135⟩ := ad_at hf
      rcases r_129 with v_138 | ⟨E_139, q_140⟩
      · dsimp only at hf
        refine rb_callV (As := [.int v_124]) (rest := []) C mi_X2_turnStorm sv_X5_64 (hp_k_isC C.pf e_127 ck_X2) (ct_X2_turnStorm Ev h_7 (n + k_8) x1 v_124 (.inl v_138) _ _ _ e_133) rfl rfl (Nat.le_of_ble_eq_true rfl) ⟨Nat.le_of_ble_eq_true rfl, Nat.le_of_ble_eq_true rfl, Bd.c1 hb ea_134, Bd.s1 hb eb_135⟩ dX5_apply_260 rb_xX (rb_kX (r := some (.int v_138)) (rb_w (kc := (kc_j149_15 + k_131)) (ks := (ks_j149_15 + s_132)) rfl rfl ?_))
        have hb := Bd.ade hb ea_134 eb_135
        refine rb_goto (tgt := 278) C dX5_apply_263 (by decide) ?_
        cases hf
        exact rb_iret C rfl rfl hb.e.2.1 hb.e.2.2 dX5_apply_278 ⟨rfl, rfl, hb.e.1⟩
      · dsimp only at hf
        by_cases c_141 : E_139 = "java/lang/IndexOutOfBoundsException"
        · have hf := (if_pos c_141).symm.trans hf
          subst c_141
          refine rb_callV (As := [.int v_124]) (rest := []) C mi_X2_turnStorm sv_X5_64 (hp_k_isC C.pf e_127 ck_X2) (ct_X2_turnStorm Ev h_7 (n + k_8) x1 v_124 (.inr ("java/lang/IndexOutOfBoundsException", q_140)) _ _ _ e_133) rfl rfl (Nat.le_of_ble_eq_true rfl) ⟨Nat.le_of_ble_eq_true rfl, Nat.le_of_ble_eq_true rfl, Bd.c1 hb ea_134, Bd.s1 hb eb_135⟩ dX5_apply_260 (rb_xY (E := "java/lang/IndexOutOfBoundsException") (rb_wX (kc := (kc_j149_15 + k_131)) (ks := (ks_j149_15 + s_132)) rfl rfl ?_)) rb_kY
          have hb := Bd.ade hb ea_134 eb_135
          cases hf
          exact rb_out C (fun _ z => absurd z List.not_mem_nil) hb.e.2.1 hb.e.2.2 ⟨rfl, rfl, hb.e.1⟩
        have hf := (if_neg c_141).symm.trans hf
        cases hf
    have hf := (if_neg c_123).symm.trans hf
    refine rb_tableOut (tgt := 266) C dX5_apply_150 (by have z0 := lv_neT (k := 0) (a := 0) c_16 (by decide); have z1 := lv_neT (k := 1) (a := 1) c_36 (by decide); have z2 := lv_neT (k := 2) (a := 2) c_53 (by decide); have z3 := lv_neT (k := 3) (a := 3) c_66 (by decide); have z4 := lv_neT (k := 4) (a := 4) c_92 (by decide); have z5 := lv_neT (k := 5) (a := 5) c_123 (by decide); omega) (by decide) ?_
    refine rb_aload_n C dX5_apply_266 rfl 1 rfl ?_
    refine rb_aload_n C dX5_apply_267 rfl 0 rfl ?_
    obtain ⟨v_142, e_143, hf⟩ := rb_bd hf
    refine rb_hP C fl_X5_13_X5 e_143 dX5_apply_268 ?_
    refine rb_iconst (v := 0) C dX5_apply_271 rfl ?_
    obtain ⟨u_144, e_145, hf⟩ := rb_bd hf
    obtain ⟨v_147, e_148, hf⟩ := rb_bd hf
    refine rb_callV (As := [.int 0]) (rest := [.ref x1]) C mi_J2_charAt sv_X5_52 (hp_k_isC C.pf e_145 ck_J2) (ct_J2_charAt Ev h_7 (n + k_8) v_142 0 _ e_148) rfl rfl (Nat.le_of_ble_eq_true rfl) ⟨Nat.le_of_ble_eq_true rfl, Nat.le_of_ble_eq_true rfl, hb.c0, hb.s0⟩ dX5_apply_272 rb_xXi (rb_kXi fun hn_146 => (rb_w (kc := kc_j149_15) (ks := ks_j149_15) rfl rfl ?_))
    obtain ⟨u_149, e_150, hf⟩ := rb_bd hf
    obtain ⟨⟨r_152, h_153, k_154, s_155⟩, e_156, hf⟩ := rb_bd hf
    obtain ⟨a_159, b_160, hf, ea_157, eb_158⟩ := ad_at hf
    rcases r_152 with v_161 | ⟨E_162, q_163⟩
    · dsimp only at hf
      refine rb_callV (As := [.int v_147]) (rest := []) C mi_X2_keep sv_X5_68 (hp_k_isC C.pf e_150 ck_X2) (ct_X2_keep Ev h_7 (n + k_8) x1 v_147 (.inl v_161) _ _ _ e_156) rfl rfl (Nat.le_of_ble_eq_true rfl) ⟨Nat.le_of_ble_eq_true rfl, Nat.le_of_ble_eq_true rfl, Bd.c1 hb ea_157, Bd.s1 hb eb_158⟩ dX5_apply_275 rb_xX (rb_kX (r := some (.int v_161)) (rb_w (kc := (kc_j149_15 + k_154)) (ks := (ks_j149_15 + s_155)) rfl rfl ?_))
      have hb := Bd.ade hb ea_157 eb_158
      cases hf
      exact rb_iret C rfl rfl hb.e.2.1 hb.e.2.2 dX5_apply_278 ⟨rfl, rfl, hb.e.1⟩
    · dsimp only at hf
      by_cases c_164 : E_162 = "RainbowOperators$Denial"
      · have hf := (if_pos c_164).symm.trans hf
        subst c_164
        refine rb_callV (As := [.int v_147]) (rest := []) C mi_X2_keep sv_X5_68 (hp_k_isC C.pf e_150 ck_X2) (ct_X2_keep Ev h_7 (n + k_8) x1 v_147 (.inr ("RainbowOperators$Denial", q_163)) _ _ _ e_156) rfl rfl (Nat.le_of_ble_eq_true rfl) ⟨Nat.le_of_ble_eq_true rfl, Nat.le_of_ble_eq_true rfl, Bd.c1 hb ea_157, Bd.s1 hb eb_158⟩ dX5_apply_275 (rb_xY (E := "RainbowOperators$Denial") (rb_wX (kc := (kc_j149_15 + k_154)) (ks := (ks_j149_15 + s_155)) rfl rfl ?_)) rb_kY
        have hb := Bd.ade hb ea_157 eb_158
        cases hf
        exact rb_out C (fun _ z => absurd z List.not_mem_nil) hb.e.2.1 hb.e.2.2 ⟨rfl, rfl, hb.e.1⟩
      have hf := (if_neg c_164).symm.trans hf
      by_cases c_165 : E_162 = "java/lang/IllegalArgumentException"
      · have hf := (if_pos c_165).symm.trans hf
        subst c_165
        refine rb_callV (As := [.int v_147]) (rest := []) C mi_X2_keep sv_X5_68 (hp_k_isC C.pf e_150 ck_X2) (ct_X2_keep Ev h_7 (n + k_8) x1 v_147 (.inr ("java/lang/IllegalArgumentException", q_163)) _ _ _ e_156) rfl rfl (Nat.le_of_ble_eq_true rfl) ⟨Nat.le_of_ble_eq_true rfl, Nat.le_of_ble_eq_true rfl, Bd.c1 hb ea_157, Bd.s1 hb eb_158⟩ dX5_apply_275 (rb_xY (E := "java/lang/IllegalArgumentException") (rb_wX (kc := (kc_j149_15 + k_154)) (ks := (ks_j149_15 + s_155)) rfl rfl ?_)) rb_kY
        have hb := Bd.ade hb ea_157 eb_158
        cases hf
        exact rb_out C (fun _ z => absurd z List.not_mem_nil) hb.e.2.1 hb.e.2.2 ⟨rfl, rfl, hb.e.1⟩
      have hf := (if_neg c_165).symm.trans hf
      cases hf
  by_cases c_166 : r_6 = (-1354842676)
  · have hf := (if_pos c_166).symm.trans hf
    refine rb_top (.int (-1354842676)) (by rw [c_166]) ?_
    refine rb_lookup (tgt := 110) C dX5_apply_11 (by decide) (off := 99) (by decide) (by decide) ?_
    refine rb_aload_n C dX5_apply_110 rfl 1 rfl ?_
    refine rb_ldcS C q767 dX5_apply_111 ?_
    obtain ⟨u_167, e_168, hf⟩ := rb_bd hf
    obtain ⟨v_170, e_171, hf⟩ := rb_bd hf
    refine rb_callV (As := [.ref (eS Ev RX5 36)]) (rest := []) C mi_J2_equals sv_X5_28 (hp_k_isC C.pf e_168 ck_J2) (ct_J2_equals Ev h_7 (n + k_8) v_1 (eS Ev RX5 36) _ e_171) rfl rfl (Nat.le_of_ble_eq_true rfl) ⟨Nat.le_of_ble_eq_true rfl, Nat.le_of_ble_eq_true rfl, hb.c0, hb.s0⟩ dX5_apply_113 rb_xXi (rb_kXi fun hn_169 => (rb_w (kc := (0 + k_8)) (ks := (0 + s_9)) rfl rfl ?_))
    refine rb_if_eq (tgt := 149) C dX5_apply_116 (by decide) (fun c_172 => ?_) (fun c_172 => ?_)
    · have hf := (if_pos c_172).symm.trans hf
      refine rb_sub [2, 3, 1, 0] rfl ?_
      exact J_j149_15 (-1)  _ _ _ _ hf hb
    · have hf := (if_neg c_172).symm.trans hf
      refine rb_iconst (v := 3) C dX5_apply_119 rfl ?_
      refine rb_istore_n (lv' := [(3, .int 3), (2, .ref v_1), (0, .ref o), (1, .ref x1)]) C dX5_apply_120 rfl (by decide) rfl ?_
      refine rb_goto (tgt := 149) C dX5_apply_121 (by decide) ?_
      refine rb_sub [2, 3, 1, 0] rfl ?_
      exact J_j149_15 3  _ _ _ _ hf hb
  have hf := (if_neg c_166).symm.trans hf
  by_cases c_173 : r_6 = 111375
  · have hf := (if_pos c_173).symm.trans hf
    refine rb_top (.int 111375) (by rw [c_173]) ?_
    refine rb_lookup (tgt := 68) C dX5_apply_11 (by decide) (off := 57) (by decide) (by decide) ?_
    refine rb_aload_n C dX5_apply_68 rfl 1 rfl ?_
    refine rb_ldcS C q756 dX5_apply_69 ?_
    obtain ⟨u_174, e_175, hf⟩ := rb_bd hf
    obtain ⟨v_177, e_178, hf⟩ := rb_bd hf
    refine rb_callV (As := [.ref (eS Ev RX5 26)]) (rest := []) C mi_J2_equals sv_X5_28 (hp_k_isC C.pf e_175 ck_J2) (ct_J2_equals Ev h_7 (n + k_8) v_1 (eS Ev RX5 26) _ e_178) rfl rfl (Nat.le_of_ble_eq_true rfl) ⟨Nat.le_of_ble_eq_true rfl, Nat.le_of_ble_eq_true rfl, hb.c0, hb.s0⟩ dX5_apply_71 rb_xXi (rb_kXi fun hn_176 => (rb_w (kc := (0 + k_8)) (ks := (0 + s_9)) rfl rfl ?_))
    refine rb_if_eq (tgt := 149) C dX5_apply_74 (by decide) (fun c_179 => ?_) (fun c_179 => ?_)
    · have hf := (if_pos c_179).symm.trans hf
      refine rb_sub [2, 3, 1, 0] rfl ?_
      exact J_j149_15 (-1)  _ _ _ _ hf hb
    · have hf := (if_neg c_179).symm.trans hf
      refine rb_iconst (v := 0) C dX5_apply_77 rfl ?_
      refine rb_istore_n (lv' := [(3, .int 0), (2, .ref v_1), (0, .ref o), (1, .ref x1)]) C dX5_apply_78 rfl (by decide) rfl ?_
      refine rb_goto (tgt := 149) C dX5_apply_79 (by decide) ?_
      refine rb_sub [2, 3, 1, 0] rfl ?_
      exact J_j149_15 0  _ _ _ _ hf hb
  have hf := (if_neg c_173).symm.trans hf
  by_cases c_180 : r_6 = 3347397
  · have hf := (if_pos c_180).symm.trans hf
    refine rb_top (.int 3347397) (by rw [c_180]) ?_
    refine rb_lookup (tgt := 124) C dX5_apply_11 (by decide) (off := 113) (by decide) (by decide) ?_
    refine rb_aload_n C dX5_apply_124 rfl 1 rfl ?_
    refine rb_ldcS C q768 dX5_apply_125 ?_
    obtain ⟨u_181, e_182, hf⟩ := rb_bd hf
    obtain ⟨v_184, e_185, hf⟩ := rb_bd hf
    refine rb_callV (As := [.ref (eS Ev RX5 38)]) (rest := []) C mi_J2_equals sv_X5_28 (hp_k_isC C.pf e_182 ck_J2) (ct_J2_equals Ev h_7 (n + k_8) v_1 (eS Ev RX5 38) _ e_185) rfl rfl (Nat.le_of_ble_eq_true rfl) ⟨Nat.le_of_ble_eq_true rfl, Nat.le_of_ble_eq_true rfl, hb.c0, hb.s0⟩ dX5_apply_127 rb_xXi (rb_kXi fun hn_183 => (rb_w (kc := (0 + k_8)) (ks := (0 + s_9)) rfl rfl ?_))
    refine rb_if_eq (tgt := 149) C dX5_apply_130 (by decide) (fun c_186 => ?_) (fun c_186 => ?_)
    · have hf := (if_pos c_186).symm.trans hf
      refine rb_sub [2, 3, 1, 0] rfl ?_
      exact J_j149_15 (-1)  _ _ _ _ hf hb
    · have hf := (if_neg c_186).symm.trans hf
      refine rb_iconst (v := 4) C dX5_apply_133 rfl ?_
      refine rb_istore_n (lv' := [(3, .int 4), (2, .ref v_1), (0, .ref o), (1, .ref x1)]) C dX5_apply_134 rfl (by decide) rfl ?_
      refine rb_goto (tgt := 149) C dX5_apply_135 (by decide) ?_
      refine rb_sub [2, 3, 1, 0] rfl ?_
      exact J_j149_15 4  _ _ _ _ hf hb
  have hf := (if_neg c_180).symm.trans hf
  by_cases c_187 : r_6 = 94746189
  · have hf := (if_pos c_187).symm.trans hf
    refine rb_top (.int 94746189) (by rw [c_187]) ?_
    refine rb_lookup (tgt := 96) C dX5_apply_11 (by decide) (off := 85) (by decide) (by decide) ?_
    refine rb_aload_n C dX5_apply_96 rfl 1 rfl ?_
    refine rb_ldcS C q766 dX5_apply_97 ?_
    obtain ⟨u_188, e_189, hf⟩ := rb_bd hf
    obtain ⟨v_191, e_192, hf⟩ := rb_bd hf
    refine rb_callV (As := [.ref (eS Ev RX5 34)]) (rest := []) C mi_J2_equals sv_X5_28 (hp_k_isC C.pf e_189 ck_J2) (ct_J2_equals Ev h_7 (n + k_8) v_1 (eS Ev RX5 34) _ e_192) rfl rfl (Nat.le_of_ble_eq_true rfl) ⟨Nat.le_of_ble_eq_true rfl, Nat.le_of_ble_eq_true rfl, hb.c0, hb.s0⟩ dX5_apply_99 rb_xXi (rb_kXi fun hn_190 => (rb_w (kc := (0 + k_8)) (ks := (0 + s_9)) rfl rfl ?_))
    refine rb_if_eq (tgt := 149) C dX5_apply_102 (by decide) (fun c_193 => ?_) (fun c_193 => ?_)
    · have hf := (if_pos c_193).symm.trans hf
      refine rb_sub [2, 3, 1, 0] rfl ?_
      exact J_j149_15 (-1)  _ _ _ _ hf hb
    · have hf := (if_neg c_193).symm.trans hf
      refine rb_iconst (v := 2) C dX5_apply_105 rfl ?_
      refine rb_istore_n (lv' := [(3, .int 2), (2, .ref v_1), (0, .ref o), (1, .ref x1)]) C dX5_apply_106 rfl (by decide) rfl ?_
      refine rb_goto (tgt := 149) C dX5_apply_107 (by decide) ?_
      refine rb_sub [2, 3, 1, 0] rfl ?_
      exact J_j149_15 2  _ _ _ _ hf hb
  have hf := (if_neg c_187).symm.trans hf
  by_cases c_194 : r_6 = 96768678
  · have hf := (if_pos c_194).symm.trans hf
    refine rb_top (.int 96768678) (by rw [c_194]) ?_
    refine rb_lookup (tgt := 82) C dX5_apply_11 (by decide) (off := 71) (by decide) (by decide) ?_
    refine rb_aload_n C dX5_apply_82 rfl 1 rfl ?_
    refine rb_ldcS C q765 dX5_apply_83 ?_
    obtain ⟨u_195, e_196, hf⟩ := rb_bd hf
    obtain ⟨v_198, e_199, hf⟩ := rb_bd hf
    refine rb_callV (As := [.ref (eS Ev RX5 32)]) (rest := []) C mi_J2_equals sv_X5_28 (hp_k_isC C.pf e_196 ck_J2) (ct_J2_equals Ev h_7 (n + k_8) v_1 (eS Ev RX5 32) _ e_199) rfl rfl (Nat.le_of_ble_eq_true rfl) ⟨Nat.le_of_ble_eq_true rfl, Nat.le_of_ble_eq_true rfl, hb.c0, hb.s0⟩ dX5_apply_85 rb_xXi (rb_kXi fun hn_197 => (rb_w (kc := (0 + k_8)) (ks := (0 + s_9)) rfl rfl ?_))
    refine rb_if_eq (tgt := 149) C dX5_apply_88 (by decide) (fun c_200 => ?_) (fun c_200 => ?_)
    · have hf := (if_pos c_200).symm.trans hf
      refine rb_sub [2, 3, 1, 0] rfl ?_
      exact J_j149_15 (-1)  _ _ _ _ hf hb
    · have hf := (if_neg c_200).symm.trans hf
      refine rb_iconst (v := 1) C dX5_apply_91 rfl ?_
      refine rb_istore_n (lv' := [(3, .int 1), (2, .ref v_1), (0, .ref o), (1, .ref x1)]) C dX5_apply_92 rfl (by decide) rfl ?_
      refine rb_goto (tgt := 149) C dX5_apply_93 (by decide) ?_
      refine rb_sub [2, 3, 1, 0] rfl ?_
      exact J_j149_15 1  _ _ _ _ hf hb
  have hf := (if_neg c_194).symm.trans hf
  by_cases c_201 : r_6 = 109770985
  · have hf := (if_pos c_201).symm.trans hf
    refine rb_top (.int 109770985) (by rw [c_201]) ?_
    refine rb_lookup (tgt := 138) C dX5_apply_11 (by decide) (off := 127) (by decide) (by decide) ?_
    refine rb_aload_n C dX5_apply_138 rfl 1 rfl ?_
    refine rb_ldcS C q769 dX5_apply_139 ?_
    obtain ⟨u_202, e_203, hf⟩ := rb_bd hf
    obtain ⟨v_205, e_206, hf⟩ := rb_bd hf
    refine rb_callV (As := [.ref (eS Ev RX5 40)]) (rest := []) C mi_J2_equals sv_X5_28 (hp_k_isC C.pf e_203 ck_J2) (ct_J2_equals Ev h_7 (n + k_8) v_1 (eS Ev RX5 40) _ e_206) rfl rfl (Nat.le_of_ble_eq_true rfl) ⟨Nat.le_of_ble_eq_true rfl, Nat.le_of_ble_eq_true rfl, hb.c0, hb.s0⟩ dX5_apply_141 rb_xXi (rb_kXi fun hn_204 => (rb_w (kc := (0 + k_8)) (ks := (0 + s_9)) rfl rfl ?_))
    refine rb_if_eq (tgt := 149) C dX5_apply_144 (by decide) (fun c_207 => ?_) (fun c_207 => ?_)
    · have hf := (if_pos c_207).symm.trans hf
      refine rb_sub [2, 3, 1, 0] rfl ?_
      exact J_j149_15 (-1)  _ _ _ _ hf hb
    · have hf := (if_neg c_207).symm.trans hf
      refine rb_iconst (v := 5) C dX5_apply_147 rfl ?_
      refine rb_istore_n (lv' := [(3, .int 5), (2, .ref v_1), (0, .ref o), (1, .ref x1)]) C dX5_apply_148 rfl (by decide) rfl ?_
      refine rb_sub [2, 3, 1, 0] rfl ?_
      exact J_j149_15 5  _ _ _ _ hf hb
  have hf := (if_neg c_201).symm.trans hf
  refine rb_lookup (tgt := 149) C dX5_apply_11 (by decide) (off := 138) (by show Op.lookupswitch.offset [(-1354842676, 99), (111375, 57), (3347397, 113), (94746189, 85), (96768678, 71), (109770985, 127)] 138 _ = _; rw [lv_osw (k := (-1354842676)) (a := (-1354842676)) c_166 (by decide), lv_osw (k := 111375) (a := 111375) c_173 (by decide), lv_osw (k := 3347397) (a := 3347397) c_180 (by decide), lv_osw (k := 94746189) (a := 94746189) c_187 (by decide), lv_osw (k := 96768678) (a := 96768678) c_194 (by decide), lv_osw (k := 109770985) (a := 109770985) c_201 (by decide)]; rfl) (by decide) ?_
  refine rb_sub [2, 3, 1, 0] rfl ?_
  exact J_j149_15 (-1)  _ _ _ _ hf hb
def f_J6_sub (x0 : Int32) (x1 : Int32) (x2 : Int32) : Int32 := (if 0 ≤ (x0 - x1) then (x0 - x1) else ((x0 - x1) + x2))
abbrev rm_J6_sub : Room := { frames := 0, cells := 0, slots := 0, locals := 0 }
set_option maxHeartbeats 4000000 in
theorem ct_J6_sub (Ev : rb_E) (h : AH) (n : Nat) (x0 : Int32) (x1 : Int32) (x2 : Int32) (r : Int32) (hf : f_J6_sub x0 x1 x2 = r) : Ct Ev yJ6_sub (ws_ yJ6_sub cJ6_sub 3 (some .int)) (rm_J6_sub) [.int x0, .int x1, .int x2] h n (pXi .int r h n) := by
  rw [f_J6_sub] at hf
  refine Ct.of rfl (Nat.le_of_ble_eq_true rfl) fun X C hnm => ?_
  have C : Cx Ev X RJ6 cJ6_sub 3 (some .int) [] := C
  show Wa Ev X (rm_J6_sub) 3 h n 0 0 (rb_MQ Ev X (rm_J6_sub) (pXi .int r h n)) 0 [(0, .int x0), (1, .int x1), (2, .int x2)] []
  refine rb_iload_n C dJ6_sub_0 rfl 0 rfl ?_
  refine rb_iload_n C dJ6_sub_1 rfl 1 rfl ?_
  refine rb_isub C dJ6_sub_2 ?_
  refine rb_dup C dJ6_sub_3 rfl ?_
  refine rb_istore_n (lv' := [(0, .int (x0 - x1)), (1, .int x1), (2, .int x2)]) C dJ6_sub_4 rfl (by decide) rfl ?_
  refine rb_if_ge (tgt := 12) C dJ6_sub_5 (by decide) (fun c_1 => ?_) (fun c_1 => ?_)
  · have hf := (if_pos c_1).symm.trans hf
    refine rb_iload_n C dJ6_sub_12 rfl 0 rfl ?_
    subst hf
    exact rb_iret C rfl rfl (Nat.zero_le _) (Nat.zero_le _) dJ6_sub_13 ⟨rfl, rfl, rfl, rfl⟩
  · have hf := (if_neg c_1).symm.trans hf
    refine rb_iload_n C dJ6_sub_8 rfl 0 rfl ?_
    refine rb_iload_n C dJ6_sub_9 rfl 2 rfl ?_
    refine rb_iadd C dJ6_sub_10 ?_
    refine rb_istore_n (lv' := [(0, .int ((x0 - x1) + x2)), (1, .int x1), (2, .int x2)]) C dJ6_sub_11 rfl (by decide) rfl ?_
    refine rb_iload_n C dJ6_sub_12 rfl 0 rfl ?_
    subst hf
    exact rb_iret C rfl rfl (Nat.zero_le _) (Nat.zero_le _) dJ6_sub_13 ⟨rfl, rfl, rfl, rfl⟩
def f_J6_size (Ev : rb_E) (h : AH) (o : Nat) : Option Int32 := ((hp_i Ev h o 15 2).bind fun v_1 => ((hp_i Ev h o 15 1).bind fun v_3 => ((hp_p Ev h o 15 0).bind fun v_5 => ((hp_len Ev h v_5 6).bind fun v_7 => (some (f_J6_sub v_1 v_3 (nI v_7)))))))
abbrev rm_J6_size : Room := { frames := 1, cells := 0, slots := 0, locals := 22 }
set_option maxHeartbeats 4000000 in
theorem ct_J6_size (Ev : rb_E) (h : AH) (n : Nat) (o : Nat) (r : Int32) (hf : f_J6_size Ev h o = some r) : Ct Ev yJ6_size (ws_ yJ6_size cJ6_size 1 (some .int)) (rm_J6_size) [.ref o] h n (pXi .int r h n) := by
  rw [f_J6_size] at hf
  refine Ct.of rfl (Nat.le_of_ble_eq_true rfl) fun X C hnm => ?_
  have C : Cx Ev X RJ6 cJ6_size 1 (some .int) [] := C
  show Wa Ev X (rm_J6_size) 1 h n 0 0 (rb_MQ Ev X (rm_J6_size) (pXi .int r h n)) 0 [(0, .ref o)] []
  refine rb_aload_n C dJ6_size_0 rfl 0 rfl ?_
  obtain ⟨v_1, e_2, hf⟩ := rb_bd hf
  refine rb_hI C fl_J6_20_J6 e_2 dJ6_size_1 ?_
  refine rb_aload_n C dJ6_size_4 rfl 0 rfl ?_
  obtain ⟨v_3, e_4, hf⟩ := rb_bd hf
  refine rb_hI C fl_J6_24_J6 e_4 dJ6_size_5 ?_
  refine rb_aload_n C dJ6_size_8 rfl 0 rfl ?_
  obtain ⟨v_5, e_6, hf⟩ := rb_bd hf
  refine rb_hP C fl_J6_3_J6 e_6 dJ6_size_9 ?_
  obtain ⟨v_7, e_8, hf⟩ := rb_bd hf
  refine rb_hlen (t := 6) C rfl e_8 dJ6_size_12 ?_
  refine rb_callS (As := [.int v_1, .int v_3, .int (nI v_7)]) (rest := []) C mi_J6_sub ss_J6_127 (ct_J6_sub Ev h n v_1 v_3 (nI v_7) _ rfl) rfl rfl (Nat.le_of_ble_eq_true rfl) ⟨Nat.le_of_ble_eq_true rfl, Nat.le_of_ble_eq_true rfl, (Nat.zero_le _), (Nat.zero_le _)⟩ dJ6_size_13 rb_xXi (rb_kXi fun hn_9 => (rb_w (kc := 0) (ks := 0) rfl rfl ?_))
  cases hf
  exact rb_iret C rfl rfl (Nat.zero_le _) (Nat.zero_le _) dJ6_size_16 ⟨rfl, rfl, rfl, rfl⟩
def f_J6_dec (x0 : Int32) (x1 : Int32) : Int32 := (if 0 ≤ (x0 + (-1)) then (x0 + (-1)) else (x1 - 1))
abbrev rm_J6_dec : Room := { frames := 0, cells := 0, slots := 0, locals := 0 }
set_option maxHeartbeats 4000000 in
theorem ct_J6_dec (Ev : rb_E) (h : AH) (n : Nat) (x0 : Int32) (x1 : Int32) (r : Int32) (hf : f_J6_dec x0 x1 = r) : Ct Ev yJ6_dec (ws_ yJ6_dec cJ6_dec 2 (some .int)) (rm_J6_dec) [.int x0, .int x1] h n (pXi .int r h n) := by
  rw [f_J6_dec] at hf
  refine Ct.of rfl (Nat.le_of_ble_eq_true rfl) fun X C hnm => ?_
  have C : Cx Ev X RJ6 cJ6_dec 2 (some .int) [] := C
  show Wa Ev X (rm_J6_dec) 2 h n 0 0 (rb_MQ Ev X (rm_J6_dec) (pXi .int r h n)) 0 [(0, .int x0), (1, .int x1)] []
  refine rb_iinc (v := (x0 + (-1))) (lv' := [(0, .int (x0 + (-1))), (1, .int x1)]) C dJ6_dec_0 (k := 0) rfl rfl (by decide) rfl ?_
  refine rb_iload_n C dJ6_dec_3 rfl 0 rfl ?_
  refine rb_if_ge (tgt := 11) C dJ6_dec_4 (by decide) (fun c_1 => ?_) (fun c_1 => ?_)
  · have hf := (if_pos c_1).symm.trans hf
    refine rb_iload_n C dJ6_dec_11 rfl 0 rfl ?_
    subst hf
    exact rb_iret C rfl rfl (Nat.zero_le _) (Nat.zero_le _) dJ6_dec_12 ⟨rfl, rfl, rfl, rfl⟩
  · have hf := (if_neg c_1).symm.trans hf
    refine rb_iload_n C dJ6_dec_7 rfl 1 rfl ?_
    refine rb_iconst (v := 1) C dJ6_dec_8 rfl ?_
    refine rb_isub C dJ6_dec_9 ?_
    refine rb_istore_n (lv' := [(0, .int (x1 - 1)), (1, .int x1)]) C dJ6_dec_10 rfl (by decide) rfl ?_
    refine rb_iload_n C dJ6_dec_11 rfl 0 rfl ?_
    subst hf
    exact rb_iret C rfl rfl (Nat.zero_le _) (Nat.zero_le _) dJ6_dec_12 ⟨rfl, rfl, rfl, rfl⟩
def f_J6_elementAt (Ev : rb_E) (h : AH) (x0 : Nat) (x1 : Int32) : Option Nat := ((hp_ap Ev h 6 x0 x1).bind fun v_1 => (some v_1))
abbrev rm_J6_elementAt : Room := { frames := 0, cells := 0, slots := 0, locals := 0 }
set_option maxHeartbeats 4000000 in
theorem ct_J6_elementAt (Ev : rb_E) (h : AH) (n : Nat) (x0 : Nat) (x1 : Int32) (r : Nat) (hf : f_J6_elementAt Ev h x0 x1 = some r) : Ct Ev yJ6_elementAt (ws_ yJ6_elementAt cJ6_elementAt 2 (some (.object "java/lang/Object"))) (rm_J6_elementAt) [.ref x0, .int x1] h n (pX (.inl (some (.ref r))) h n) := by
  rw [f_J6_elementAt] at hf
  refine Ct.of rfl (Nat.le_of_ble_eq_true rfl) fun X C hnm => ?_
  have C : Cx Ev X RJ6 cJ6_elementAt 2 (some (.object "java/lang/Object")) [] := C
  show Wa Ev X (rm_J6_elementAt) 2 h n 0 0 (rb_MQ Ev X (rm_J6_elementAt) (pX (.inl (some (.ref r))) h n)) 0 [(0, .ref x0), (1, .int x1)] []
  refine rb_aload_n C dJ6_elementAt_0 rfl 0 rfl ?_
  refine rb_iload_n C dJ6_elementAt_1 rfl 1 rfl ?_
  obtain ⟨v_1, e_2, hf⟩ := rb_bd hf
  refine rb_hap C 6 rfl rfl e_2 dJ6_elementAt_2 ?_
  cases hf
  exact rb_aret C rfl (Or.inl ⟨_, rfl⟩) (Or.inr ⟨_, rfl⟩) (Nat.zero_le _) (Nat.zero_le _) dJ6_elementAt_3 ⟨rfl, rfl, rfl⟩
def f_J6_pollLast (Ev : rb_E) (h : AH) (n : Nat) (o : Nat) : Option (Nat × AH × Nat × Nat) := ((hp_p Ev h o 15 0).bind fun v_1 => ((hp_i Ev h o 15 2).bind fun v_3 => ((hp_len Ev h v_1 6).bind fun v_5 => ((f_J6_elementAt Ev h v_1 (f_J6_dec v_3 (nI v_5))).bind fun v_9 => ((hp_put h o 15 2 (.int (f_J6_dec v_3 (nI v_5)))).bind fun h_11 => ((hp_as Ev h_11 6 v_1 (f_J6_dec v_3 (nI v_5)) none).bind fun h_13 => (some (v_9, h_13, 0, 0))))))))
abbrev rm_J6_pollLast (k s : Nat) : Room := { frames := 1, cells := k, slots := s, locals := 21 }
set_option maxHeartbeats 4000000 in
theorem ct_J6_pollLast (Ev : rb_E) (h : AH) (n : Nat) (o : Nat) (r : Nat) (h' : AH) (k s : Nat) (hf : f_J6_pollLast Ev h n o = some (r, h', k, s)) : Ct Ev yJ6_pollLast (ws_ yJ6_pollLast cJ6_pollLast 4 (some (.object "java/lang/Object"))) (rm_J6_pollLast k s) [.ref o] h n (pX (.inl (some (.ref r))) h' (n + k)) := by
  rw [f_J6_pollLast] at hf
  refine Ct.of rfl (Nat.le_of_ble_eq_true rfl) fun X C hnm => ?_
  have C : Cx Ev X RJ6 cJ6_pollLast 4 (some (.object "java/lang/Object")) [] := C
  show Wa Ev X (rm_J6_pollLast k s) 4 h n 0 0 (rb_MQ Ev X (rm_J6_pollLast k s) (pX (.inl (some (.ref r))) h' (n + k))) 0 [(0, .ref o)] []
  have hb : Bd (n + k) k s n 0 0 k s := ⟨rfl, Nat.le_of_eq (Nat.zero_add _), Nat.le_of_eq (Nat.zero_add _)⟩
  refine rb_aload_n C dJ6_pollLast_0 rfl 0 rfl ?_
  obtain ⟨v_1, e_2, hf⟩ := rb_bd hf
  refine rb_hP C fl_J6_3_J6 e_2 dJ6_pollLast_1 ?_
  refine rb_dup C dJ6_pollLast_4 rfl ?_
  refine rb_astore_n (lv' := [(1, .ref v_1), (0, .ref o)]) C dJ6_pollLast_5 rfl (by decide) rfl ?_
  refine rb_aload_n C dJ6_pollLast_6 rfl 1 rfl ?_
  obtain ⟨v_3, e_4, hf⟩ := rb_bd hf
  refine rb_hI C fl_J6_20_J6 e_4 dJ6_pollLast_7 ?_
  refine rb_aload_n C dJ6_pollLast_10 rfl 0 rfl ?_
  obtain ⟨v_5, e_6, hf⟩ := rb_bd hf
  refine rb_hlen (t := 6) C rfl e_6 dJ6_pollLast_11 ?_
  refine rb_callS (As := [.int v_3, .int (nI v_5)]) (rest := [.ref v_1]) C mi_J6_dec ss_J6_68 (ct_J6_dec Ev h n v_3 (nI v_5) _ rfl) rfl rfl (Nat.le_of_ble_eq_true rfl) ⟨Nat.le_of_ble_eq_true rfl, Nat.le_of_ble_eq_true rfl, hb.c0, hb.s0⟩ dJ6_pollLast_12 rb_xXi (rb_kXi fun hn_7 => (rb_w (kc := 0) (ks := 0) rfl rfl ?_))
  refine rb_dup C dJ6_pollLast_15 rfl ?_
  refine rb_istore_n (lv' := [(2, .int (f_J6_dec v_3 (nI v_5))), (1, .ref v_1), (0, .ref o)]) C dJ6_pollLast_16 rfl (by decide) rfl ?_
  obtain ⟨v_9, e_10, hf⟩ := rb_bd hf
  refine rb_callS (As := [.ref v_1, .int (f_J6_dec v_3 (nI v_5))]) (rest := []) C mi_J6_elementAt ss_J6_103 (ct_J6_elementAt Ev h n v_1 (f_J6_dec v_3 (nI v_5)) _ e_10) rfl rfl (Nat.le_of_ble_eq_true rfl) ⟨Nat.le_of_ble_eq_true rfl, Nat.le_of_ble_eq_true rfl, hb.c0, hb.s0⟩ dJ6_pollLast_17 rb_xX (rb_kX (rb_w (kc := 0) (ks := 0) rfl rfl ?_))
  refine rb_astore_n (lv' := [(3, .ref v_9), (2, .int (f_J6_dec v_3 (nI v_5))), (1, .ref v_1), (0, .ref o)]) C dJ6_pollLast_20 rfl (by decide) rfl ?_
  refine rb_aload_n C dJ6_pollLast_21 rfl 0 rfl ?_
  refine rb_ifnull C dJ6_pollLast_22 ?_
  refine rb_aload_n C dJ6_pollLast_25 rfl 2 rfl ?_
  refine rb_aload_n C dJ6_pollLast_26 rfl 3 rfl ?_
  refine rb_iload_n C dJ6_pollLast_27 rfl 1 rfl ?_
  refine rb_dup_x1 C dJ6_pollLast_28 rfl rfl ?_
  obtain ⟨h_11, e_12, hf⟩ := rb_bd hf
  refine rb_hput C fw_J6_20_J6 e_12 rfl rfl dJ6_pollLast_29 ?_
  refine rb_null C dJ6_pollLast_32 ?_
  obtain ⟨h_13, e_14, hf⟩ := rb_bd hf
  refine rb_hasN C 6 rfl e_14 dJ6_pollLast_33 ?_
  refine rb_aload_n C dJ6_pollLast_34 rfl 0 rfl ?_
  cases hf
  exact rb_aret C rfl (Or.inl ⟨_, rfl⟩) (Or.inr ⟨_, rfl⟩) hb.e.2.1 hb.e.2.2 dJ6_pollLast_35 ⟨rfl, rfl, hb.e.1⟩
def f_J6_removeLast (Ev : rb_E) (h : AH) (n : Nat) (o : Nat) : Option (Nat × AH × Nat × Nat) := ((hp_k Ev h o 15).bind fun u_1 => ((f_J6_pollLast Ev h n o).bind fun (r_4, h_5, k_6, s_7) => (ad k_6 s_7 (some (r_4, h_5, 0, 0)))))
abbrev rm_J6_removeLast (k s : Nat) : Room := { frames := 2, cells := k, slots := s, locals := 44 }
set_option maxHeartbeats 4000000 in
theorem ct_J6_removeLast (Ev : rb_E) (h : AH) (n : Nat) (o : Nat) (r : Nat) (h' : AH) (k s : Nat) (hf : f_J6_removeLast Ev h n o = some (r, h', k, s)) : Ct Ev yJ6_removeLast (ws_ yJ6_removeLast cJ6_removeLast 2 (some (.object "java/lang/Object"))) (rm_J6_removeLast k s) [.ref o] h n (pX (.inl (some (.ref r))) h' (n + k)) := by
  rw [f_J6_removeLast] at hf
  refine Ct.of rfl (Nat.le_of_ble_eq_true rfl) fun X C hnm => ?_
  have C : Cx Ev X RJ6 cJ6_removeLast 2 (some (.object "java/lang/Object")) [] := C
  show Wa Ev X (rm_J6_removeLast k s) 2 h n 0 0 (rb_MQ Ev X (rm_J6_removeLast k s) (pX (.inl (some (.ref r))) h' (n + k))) 0 [(0, .ref o)] []
  have hb : Bd (n + k) k s n 0 0 k s := ⟨rfl, Nat.le_of_eq (Nat.zero_add _), Nat.le_of_eq (Nat.zero_add _)⟩
  refine rb_aload_n C dJ6_removeLast_0 rfl 0 rfl ?_
  obtain ⟨u_1, e_2, hf⟩ := rb_bd hf
  obtain ⟨⟨r_4, h_5, k_6, s_7⟩, e_8, hf⟩ := rb_bd hf
  obtain ⟨a_11, b_12, hf, ea_9, eb_10⟩ := ad_at hf
  refine rb_callV (As := []) (rest := []) C mi_J6_pollLast sv_J6_100 (hp_k_isC C.pf e_2 ck_J6) (ct_J6_pollLast Ev h n o r_4 _ _ _ e_8) rfl rfl (Nat.le_of_ble_eq_true rfl) ⟨Nat.le_of_ble_eq_true rfl, Nat.le_of_ble_eq_true rfl, Bd.c1 hb ea_9, Bd.s1 hb eb_10⟩ dJ6_removeLast_1 rb_xX (rb_kX (rb_w (kc := (0 + k_6)) (ks := (0 + s_7)) rfl rfl ?_))
  have hb := Bd.ade hb ea_9 eb_10
  refine rb_astore_n (lv' := [(1, .ref r_4), (0, .ref o)]) C dJ6_removeLast_4 rfl (by decide) rfl ?_
  refine rb_aload_n C dJ6_removeLast_5 rfl 0 rfl ?_
  refine rb_ifnonnull (tgt := 17) C dJ6_removeLast_6 (by decide) ?_
  refine rb_aload_n C dJ6_removeLast_17 rfl 0 rfl ?_
  cases hf
  exact rb_aret C rfl (Or.inl ⟨_, rfl⟩) (Or.inr ⟨_, rfl⟩) hb.e.2.1 hb.e.2.2 dJ6_removeLast_18 ⟨rfl, rfl, hb.e.1⟩
def f_J6_newCapacity (Ev : rb_E) (h : AH) (o : Nat) (x1 : Int32) (x2 : Int32) : Option Int32 := ((hp_p Ev h o 15 0).bind fun v_1 => ((hp_len Ev h v_1 6).bind fun v_3 => (if (((nI v_3) + x1) - 2147483639) ≤ 0 then (if x1 ≤ x2 then (if 0 ≤ (((nI v_3) + x2) - 2147483639) then (some 2147483639) else (some ((nI v_3) + x2))) else (some ((nI v_3) + x1))) else (if 0 ≤ ((nI v_3) + x1) then (some 2147483647) else none))))
abbrev rm_J6_newCapacity : Room := { frames := 0, cells := 0, slots := 0, locals := 0 }
set_option maxHeartbeats 4000000 in
theorem ct_J6_newCapacity (Ev : rb_E) (h : AH) (n : Nat) (o : Nat) (x1 : Int32) (x2 : Int32) (r : Int32) (hf : f_J6_newCapacity Ev h o x1 x2 = some r) : Ct Ev yJ6_newCapacity (ws_ yJ6_newCapacity cJ6_newCapacity 5 (some .int)) (rm_J6_newCapacity) [.ref o, .int x1, .int x2] h n (pXi .int r h n) := by
  rw [f_J6_newCapacity] at hf
  refine Ct.of rfl (Nat.le_of_ble_eq_true rfl) fun X C hnm => ?_
  have C : Cx Ev X RJ6 cJ6_newCapacity 5 (some .int) [] := C
  show Wa Ev X (rm_J6_newCapacity) 5 h n 0 0 (rb_MQ Ev X (rm_J6_newCapacity) (pXi .int r h n)) 0 [(0, .ref o), (1, .int x1), (2, .int x2)] []
  refine rb_aload_n C dJ6_newCapacity_0 rfl 0 rfl ?_
  obtain ⟨v_1, e_2, hf⟩ := rb_bd hf
  refine rb_hP C fl_J6_3_J6 e_2 dJ6_newCapacity_1 ?_
  obtain ⟨v_3, e_4, hf⟩ := rb_bd hf
  refine rb_hlen (t := 6) C rfl e_4 dJ6_newCapacity_4 ?_
  refine rb_istore_n (lv' := [(3, .int (nI v_3)), (0, .ref o), (1, .int x1), (2, .int x2)]) C dJ6_newCapacity_5 rfl (by decide) rfl ?_
  refine rb_iload_n C dJ6_newCapacity_6 rfl 0 rfl ?_
  refine rb_iload_n C dJ6_newCapacity_7 rfl 2 rfl ?_
  refine rb_iadd C dJ6_newCapacity_8 ?_
  refine rb_dup C dJ6_newCapacity_9 rfl ?_
  refine rb_istore (lv' := [(4, .int ((nI v_3) + x1)), (3, .int (nI v_3)), (0, .ref o), (1, .int x1), (2, .int x2)]) C dJ6_newCapacity_10 (by decide) rfl ?_
  refine rb_ldc C q1253 dJ6_newCapacity_12 ?_
  refine rb_isub C dJ6_newCapacity_14 ?_
  refine rb_if_le (tgt := 36) C dJ6_newCapacity_15 (by decide) (fun c_5 => ?_) (fun c_5 => ?_)
  · have hf := (if_pos c_5).symm.trans hf
    refine rb_iload_n C dJ6_newCapacity_36 rfl 3 rfl ?_
    refine rb_iload_n C dJ6_newCapacity_37 rfl 4 rfl ?_
    refine rb_icmp_le (tgt := 44) C dJ6_newCapacity_38 (by decide) (fun c_6 => ?_) (fun c_6 => ?_)
    · have hf := (if_pos c_6).symm.trans hf
      refine rb_iload_n C dJ6_newCapacity_44 rfl 1 rfl ?_
      refine rb_iload_n C dJ6_newCapacity_45 rfl 4 rfl ?_
      refine rb_iadd C dJ6_newCapacity_46 ?_
      refine rb_ldc C q1253 dJ6_newCapacity_47 ?_
      refine rb_isub C dJ6_newCapacity_49 ?_
      refine rb_if_ge (tgt := 59) C dJ6_newCapacity_50 (by decide) (fun c_7 => ?_) (fun c_7 => ?_)
      · have hf := (if_pos c_7).symm.trans hf
        refine rb_ldc C q1253 dJ6_newCapacity_59 ?_
        cases hf
        exact rb_iret C rfl rfl (Nat.zero_le _) (Nat.zero_le _) dJ6_newCapacity_61 ⟨rfl, rfl, rfl, rfl⟩
      · have hf := (if_neg c_7).symm.trans hf
        refine rb_iload_n C dJ6_newCapacity_53 rfl 1 rfl ?_
        refine rb_iload_n C dJ6_newCapacity_54 rfl 4 rfl ?_
        refine rb_iadd C dJ6_newCapacity_55 ?_
        refine rb_goto (tgt := 61) C dJ6_newCapacity_56 (by decide) ?_
        cases hf
        exact rb_iret C rfl rfl (Nat.zero_le _) (Nat.zero_le _) dJ6_newCapacity_61 ⟨rfl, rfl, rfl, rfl⟩
    · have hf := (if_neg c_6).symm.trans hf
      refine rb_iload C dJ6_newCapacity_41 0 rfl ?_
      cases hf
      exact rb_iret C rfl rfl (Nat.zero_le _) (Nat.zero_le _) dJ6_newCapacity_43 ⟨rfl, rfl, rfl, rfl⟩
  · have hf := (if_neg c_5).symm.trans hf
    refine rb_iload C dJ6_newCapacity_18 0 rfl ?_
    refine rb_if_ge (tgt := 33) C dJ6_newCapacity_20 (by decide) (fun c_8 => ?_) (fun c_8 => ?_)
    · have hf := (if_pos c_8).symm.trans hf
      refine rb_ldc C q1274 dJ6_newCapacity_33 ?_
      cases hf
      exact rb_iret C rfl rfl (Nat.zero_le _) (Nat.zero_le _) dJ6_newCapacity_35 ⟨rfl, rfl, rfl, rfl⟩
    · have hf := (if_neg c_8).symm.trans hf
      cases hf
def f_J9_copyOf_3 (Ev : rb_E) (h : AH) (n : Nat) (x0 : Nat) (x1 : Int32) (x2 : Nat) : Option (Nat × AH × Nat × Nat) := (if some x2 = some (eM Ev) then (if x1 < 0 ∨ 65536 < x1.toNatClampNeg then none else (ad 1 x1.toNatClampNeg (rb_lt (va_up h n (some (.inl (eA Ev 6, x1.toNatClampNeg, aQ (fun _ => none))))) fun h_8 => ((hp_len Ev h_8 x0 6).bind fun v_9 => ((hp_cpa Ev h_8 6 obL x0 0 n 0 (if x1 < (nI v_9) then x1 else (nI v_9))).bind fun h_11 => (some (n, h_11, 0, 0))))))) else none)
abbrev rm_J9_copyOf_3 (k s : Nat) : Room := { frames := 1, cells := k, slots := s, locals := 60 }
set_option maxHeartbeats 4000000 in
theorem ct_J9_copyOf_3 (Ev : rb_E) (h : AH) (n : Nat) (x0 : Nat) (x1 : Int32) (x2 : Nat) (r : Nat) (h' : AH) (k s : Nat) (hf : f_J9_copyOf_3 Ev h n x0 x1 x2 = some (r, h', k, s)) : Ct Ev yJ9_copyOf_3 (ws_ yJ9_copyOf_3 cJ9_copyOf_3 4 (some (.array (.object "java/lang/Object")))) (rm_J9_copyOf_3 k s) [.ref x0, .int x1, .ref x2] h n (pX (.inl (some (.ref r))) h' (n + k)) := by
  rw [f_J9_copyOf_3] at hf
  refine Ct.of rfl (Nat.le_of_ble_eq_true rfl) fun X C hnm => ?_
  have C : Cx Ev X RJ9 cJ9_copyOf_3 4 (some (.array (.object "java/lang/Object"))) [] := C
  show Wa Ev X (rm_J9_copyOf_3 k s) 4 h n 0 0 (rb_MQ Ev X (rm_J9_copyOf_3 k s) (pX (.inl (some (.ref r))) h' (n + k))) 0 [(0, .ref x0), (1, .int x1), (2, .ref x2)] []
  have hb : Bd (n + k) k s n 0 0 k s := ⟨rfl, Nat.le_of_eq (Nat.zero_add _), Nat.le_of_eq (Nat.zero_add _)⟩
  refine rb_aload_n C dJ9_copyOf_3_0 rfl 2 rfl ?_
  refine rb_ldcM C q1321 dJ9_copyOf_3_1 ?_
  refine rb_acmp_ne (rx := some x2) (ry := some (eM Ev)) (tgt := 13) C dJ9_copyOf_3_3 (by decide) (fun c_1 => ?_) (fun c_1 => ?_)
  · have hf := (if_neg c_1).symm.trans hf
    refine rb_aload_n C dJ9_copyOf_3_13 rfl 2 rfl ?_
    cases hf
  · have hf := (if_pos c_1).symm.trans hf
    refine rb_iload_n C dJ9_copyOf_3_6 rfl 1 rfl ?_
    by_cases c_g_3 : x1 < 0 ∨ 65536 < x1.toNatClampNeg
    · exact absurd ((if_pos c_g_3).symm.trans hf) (fun z => by cases z)
    have hf := (if_neg c_g_3).symm.trans hf
    obtain ⟨a_6, b_7, hf, ea_4, eb_5⟩ := ad_at hf
    refine rb_hnewq C 6 rfl q1322 q214 c_g_3 (Bd.c1 hb ea_4) (Bd.s1 hb eb_5) dJ9_copyOf_3_7 ?_
    have hb := Bd.ade hb ea_4 eb_5
    obtain ⟨h_8, e_h_8⟩ : ∃ z, z = (va_up h n (some (.inl (eA Ev 6, x1.toNatClampNeg, aQ (fun _ => none))))) := ⟨_, rfl⟩
    rw [← e_h_8]
    have hf := rb_let hf e_h_8
    refine rb_goto (tgt := 24) C dJ9_copyOf_3_10 (by decide) ?_
    refine rb_astore_n (lv' := [(3, .ref n), (0, .ref x0), (1, .int x1), (2, .ref x2)]) C dJ9_copyOf_3_24 rfl (by decide) rfl ?_
    refine rb_aload_n C dJ9_copyOf_3_25 rfl 1 rfl ?_
    refine rb_iconst (v := 0) C dJ9_copyOf_3_26 rfl ?_
    refine rb_aload_n C dJ9_copyOf_3_27 rfl 0 rfl ?_
    refine rb_iconst (v := 0) C dJ9_copyOf_3_28 rfl ?_
    refine rb_aload_n C dJ9_copyOf_3_29 rfl 1 rfl ?_
    obtain ⟨v_9, e_10, hf⟩ := rb_bd hf
    refine rb_hlen (t := 6) C rfl e_10 dJ9_copyOf_3_30 ?_
    refine rb_iload_n C dJ9_copyOf_3_31 rfl 2 rfl ?_
    refine rb_mmin C q305 q306 q81 q307 (Nat.le_of_ble_eq_true rfl) (Nat.le_of_ble_eq_true rfl) hb.c0 hb.s0 dJ9_copyOf_3_32 ?_
    obtain ⟨h_11, e_12, hf⟩ := rb_bd hf
    refine rb_hcpa C 6 obL q308 q310 q309 q83 rfl obL_ok e_12 (Nat.le_of_ble_eq_true rfl) (Nat.le_of_ble_eq_true rfl) dJ9_copyOf_3_35 ?_
    refine rb_aload_n C dJ9_copyOf_3_38 rfl 0 rfl ?_
    cases hf
    exact rb_aret C rfl (Or.inr ⟨_, rfl⟩) (Or.inr ⟨_, rfl⟩) hb.e.2.1 hb.e.2.2 dJ9_copyOf_3_39 ⟨rfl, rfl, hb.e.1⟩
def f_J9_copyOf_2 (Ev : rb_E) (h : AH) (n : Nat) (x0 : Nat) (x1 : Int32) : Option (Nat × AH × Nat × Nat) := ((hp_len Ev h x0 6).bind fun u_1 => ((f_J9_copyOf_3 Ev h n x0 x1 (eM Ev)).bind fun (r_4, h_5, k_6, s_7) => (ad k_6 s_7 (some (r_4, h_5, 0, 0)))))
abbrev rm_J9_copyOf_2 (k s : Nat) : Room := { frames := 2, cells := k, slots := s, locals := 83 }
set_option maxHeartbeats 4000000 in
theorem ct_J9_copyOf_2 (Ev : rb_E) (h : AH) (n : Nat) (x0 : Nat) (x1 : Int32) (r : Nat) (h' : AH) (k s : Nat) (hf : f_J9_copyOf_2 Ev h n x0 x1 = some (r, h', k, s)) : Ct Ev yJ9_copyOf_2 (ws_ yJ9_copyOf_2 cJ9_copyOf_2 2 (some (.array (.object "java/lang/Object")))) (rm_J9_copyOf_2 k s) [.ref x0, .int x1] h n (pX (.inl (some (.ref r))) h' (n + k)) := by
  rw [f_J9_copyOf_2] at hf
  refine Ct.of rfl (Nat.le_of_ble_eq_true rfl) fun X C hnm => ?_
  have C : Cx Ev X RJ9 cJ9_copyOf_2 2 (some (.array (.object "java/lang/Object"))) [] := C
  show Wa Ev X (rm_J9_copyOf_2 k s) 2 h n 0 0 (rb_MQ Ev X (rm_J9_copyOf_2 k s) (pX (.inl (some (.ref r))) h' (n + k))) 0 [(0, .ref x0), (1, .int x1)] []
  have hb : Bd (n + k) k s n 0 0 k s := ⟨rfl, Nat.le_of_eq (Nat.zero_add _), Nat.le_of_eq (Nat.zero_add _)⟩
  refine rb_aload_n C dJ9_copyOf_2_0 rfl 0 rfl ?_
  refine rb_iload_n C dJ9_copyOf_2_1 rfl 1 rfl ?_
  refine rb_aload_n C dJ9_copyOf_2_2 rfl 0 rfl ?_
  obtain ⟨u_1, e_2, hf⟩ := rb_bd hf
  refine rb_hgetC C q1278 q2851 q1279 q1317 q2852 e_2 (Nat.le_of_ble_eq_true rfl) (Nat.le_of_ble_eq_true rfl) dJ9_copyOf_2_3 ?_
  obtain ⟨⟨r_4, h_5, k_6, s_7⟩, e_8, hf⟩ := rb_bd hf
  obtain ⟨a_11, b_12, hf, ea_9, eb_10⟩ := ad_at hf
  refine rb_callS (As := [.ref x0, .int x1, .ref (eM Ev)]) (rest := []) C mi_J9_copyOf_3 ss_J9_300 (ct_J9_copyOf_3 Ev h n x0 x1 (eM Ev) r_4 _ _ _ e_8) rfl rfl (Nat.le_of_ble_eq_true rfl) ⟨Nat.le_of_ble_eq_true rfl, Nat.le_of_ble_eq_true rfl, Bd.c1 hb ea_9, Bd.s1 hb eb_10⟩ dJ9_copyOf_2_6 rb_xX (rb_kX (rb_w (kc := (0 + k_6)) (ks := (0 + s_7)) rfl rfl ?_))
  have hb := Bd.ade hb ea_9 eb_10
  cases hf
  exact rb_aret C rfl (Or.inr ⟨_, rfl⟩) (Or.inr ⟨_, rfl⟩) hb.e.2.1 hb.e.2.2 dJ9_copyOf_2_9 ⟨rfl, rfl, hb.e.1⟩
def f_J6_grow_l145_42 (Ev : rb_E) (v_3 : Nat) (y3_j49_8 : Int32) (r_12 : Nat) (v_38 : Int32) : Nat → Int32 → AH → Nat → Option (Unit × AH × Nat × Nat)
  | 0, _, _, _ => none
  | k_l145_42 + 1, y7_l145_42, h_l145_42, n_l145_42 => (if (v_38 + (y3_j49_8 - (nI v_3))) ≤ y7_l145_42 then (some ((), h_l145_42, 0, 0)) else ((hp_as Ev h_l145_42 6 r_12 y7_l145_42 none).bind fun h_44 => ((f_J6_grow_l145_42 Ev v_3 y3_j49_8 r_12 v_38 k_l145_42) (y7_l145_42 + 1) h_44 n_l145_42)))
def f_J6_grow_l145_69 (Ev : rb_E) (v_3 : Nat) (y3_j49_8 : Int32) (r_12 : Nat) (v_65 : Int32) : Nat → Int32 → AH → Nat → Option (Unit × AH × Nat × Nat)
  | 0, _, _, _ => none
  | k_l145_69 + 1, y7_l145_69, h_l145_69, n_l145_69 => (if (v_65 + (y3_j49_8 - (nI v_3))) ≤ y7_l145_69 then (some ((), h_l145_69, 0, 0)) else ((hp_as Ev h_l145_69 6 r_12 y7_l145_69 none).bind fun h_71 => ((f_J6_grow_l145_69 Ev v_3 y3_j49_8 r_12 v_65 k_l145_69) (y7_l145_69 + 1) h_71 n_l145_69)))
def f_J6_grow_j49_8 (Ev : rb_E) (o : Nat) (h : AH) (n : Nat) (v_3 : Nat) (y3_j49_8 : Int32) : Option (Unit × AH × Nat × Nat) := ((hp_p Ev h o 15 0).bind fun v_9 => ((f_J9_copyOf_2 Ev h n v_9 y3_j49_8).bind fun (r_12, h_13, k_14, s_15) => (ad k_14 s_15 ((hp_put h_13 o 15 0 (.ref r_12)).bind fun h_21 => ((hp_i Ev h_21 o 15 2).bind fun v_23 => ((hp_i Ev h_21 o 15 1).bind fun v_25 => (if v_23 < v_25 then ((hp_i Ev h_21 o 15 1).bind fun v_28 => ((hp_i Ev h_21 o 15 1).bind fun v_30 => ((hp_i Ev h_21 o 15 1).bind fun v_32 => ((hp_cpa Ev h_21 6 obL r_12 v_28 r_12 (v_30 + (y3_j49_8 - (nI v_3))) ((nI v_3) - v_32)).bind fun h_34 => ((hp_i Ev h_34 o 15 1).bind fun v_36 => ((hp_i Ev h_34 o 15 1).bind fun v_38 => ((hp_put h_34 o 15 1 (.int (v_38 + (y3_j49_8 - (nI v_3))))).bind fun h_40 => (f_J6_grow_l145_42 Ev v_3 y3_j49_8 r_12 v_38 4096 v_36 h_40 (n + k_14))))))))) else ((hp_i Ev h_21 o 15 2).bind fun v_46 => ((hp_i Ev h_21 o 15 1).bind fun v_48 => (if v_46 = v_48 then ((hp_i Ev h_21 o 15 1).bind fun v_51 => ((hp_ap Ev h_21 6 r_12 v_51).bind fun v_53 => ((hp_i Ev h_21 o 15 1).bind fun v_55 => ((hp_i Ev h_21 o 15 1).bind fun v_57 => ((hp_i Ev h_21 o 15 1).bind fun v_59 => ((hp_cpa Ev h_21 6 obL r_12 v_55 r_12 (v_57 + (y3_j49_8 - (nI v_3))) ((nI v_3) - v_59)).bind fun h_61 => ((hp_i Ev h_61 o 15 1).bind fun v_63 => ((hp_i Ev h_61 o 15 1).bind fun v_65 => ((hp_put h_61 o 15 1 (.int (v_65 + (y3_j49_8 - (nI v_3))))).bind fun h_67 => (f_J6_grow_l145_69 Ev v_3 y3_j49_8 r_12 v_65 4096 v_63 h_67 (n + k_14))))))))))) else (some ((), h_21, 0, 0))))))))))))
def f_J6_grow_j21_6 (Ev : rb_E) (o : Nat) (x1 : Int32) (h : AH) (n : Nat) (v_3 : Nat) (w0_j21_6 : Int32) : Option (Unit × AH × Nat × Nat) := (if w0_j21_6 < x1 then ((hp_k Ev h o 15).bind fun u_73 => ((f_J6_newCapacity Ev h o x1 w0_j21_6).bind fun v_76 => (f_J6_grow_j49_8 Ev o h n v_3 v_76))) else (if (((nI v_3) + w0_j21_6) - 2147483639) ≤ 0 then (f_J6_grow_j49_8 Ev o h n v_3 ((nI v_3) + w0_j21_6)) else ((hp_k Ev h o 15).bind fun u_79 => ((f_J6_newCapacity Ev h o x1 w0_j21_6).bind fun v_82 => (f_J6_grow_j49_8 Ev o h n v_3 v_82)))))
def f_J6_grow (Ev : rb_E) (h : AH) (n : Nat) (o : Nat) (x1 : Int32) : Option (Unit × AH × Nat × Nat) := ((hp_p Ev h o 15 0).bind fun v_1 => ((hp_len Ev h v_1 6).bind fun v_3 => (if 64 ≤ (nI v_3) then (f_J6_grow_j21_6 Ev o x1 h n v_3 ((nI v_3) >>> (1 &&& 31))) else (f_J6_grow_j21_6 Ev o x1 h n v_3 ((nI v_3) + 2)))))
abbrev rm_J6_grow (k s : Nat) : Room := { frames := 3, cells := k, slots := s, locals := 104 }
set_option maxHeartbeats 4000000 in
theorem ct_J6_grow (Ev : rb_E) (h : AH) (n : Nat) (o : Nat) (x1 : Int32) (r : Unit) (h' : AH) (k s : Nat) (hf : f_J6_grow Ev h n o x1 = some (r, h', k, s)) : Ct Ev yJ6_grow (ws_ yJ6_grow cJ6_grow 9 none) (rm_J6_grow k s) [.ref o, .int x1] h n (pX (.inl (none)) h' (n + k)) := by
  rw [f_J6_grow] at hf
  refine Ct.of rfl (Nat.le_of_ble_eq_true rfl) fun X C hnm => ?_
  have C : Cx Ev X RJ6 cJ6_grow 9 none [] := C
  show Wa Ev X (rm_J6_grow k s) 9 h n 0 0 (rb_MQ Ev X (rm_J6_grow k s) (pX (.inl (none)) h' (n + k))) 0 [(0, .ref o), (1, .int x1)] []
  have hb : Bd (n + k) k s n 0 0 k s := ⟨rfl, Nat.le_of_eq (Nat.zero_add _), Nat.le_of_eq (Nat.zero_add _)⟩
  refine rb_aload_n C dJ6_grow_0 rfl 0 rfl ?_
  obtain ⟨v_1, e_2, hf⟩ := rb_bd hf
  refine rb_hP C fl_J6_3_J6 e_2 dJ6_grow_1 ?_
  obtain ⟨v_3, e_4, hf⟩ := rb_bd hf
  refine rb_hlen (t := 6) C rfl e_4 dJ6_grow_4 ?_
  refine rb_istore_n (lv' := [(2, .int (nI v_3)), (0, .ref o), (1, .int x1)]) C dJ6_grow_5 rfl (by decide) rfl ?_
  refine rb_iload_n C dJ6_grow_6 rfl 0 rfl ?_
  refine rb_bipush (v := 64) C dJ6_grow_7 rfl ?_
  have J_j21_6 : ∀ (w0_j21_6 : Int32) (kc_j21_6 ks_j21_6 a_ b_ : Nat), f_J6_grow_j21_6 Ev o x1 h n v_3 w0_j21_6 = some (r, h', a_, b_) → Bd (n + k) k s n kc_j21_6 ks_j21_6 a_ b_ → Wa Ev X (rm_J6_grow k s) 9 h n kc_j21_6 ks_j21_6 (rb_MQ Ev X (rm_J6_grow k s) (pX (.inl (none)) h' (n + k))) 21 [(0, .ref o), (1, .int x1), (2, .int (nI v_3))] [.int w0_j21_6] := by
    intro w0_j21_6 kc_j21_6 ks_j21_6 a_ b_ hf hb
    rw [f_J6_grow_j21_6] at hf
    refine rb_istore (lv' := [(4, .int w0_j21_6), (0, .ref o), (1, .int x1), (2, .int (nI v_3))]) C dJ6_grow_21 (by decide) rfl ?_
    refine rb_iload C dJ6_grow_23 0 rfl ?_
    refine rb_iload_n C dJ6_grow_25 rfl 2 rfl ?_
    have J_j49_8 : ∀ (y3_j49_8 : Int32) (kc_j49_8 ks_j49_8 a_ b_ : Nat), f_J6_grow_j49_8 Ev o h n v_3 y3_j49_8 = some (r, h', a_, b_) → Bd (n + k) k s n kc_j49_8 ks_j49_8 a_ b_ → Wa Ev X (rm_J6_grow k s) 9 h n kc_j49_8 ks_j49_8 (rb_MQ Ev X (rm_J6_grow k s) (pX (.inl (none)) h' (n + k))) 49 [(0, .ref o), (1, .int x1), (2, .int (nI v_3)), (3, .int y3_j49_8), (4, .int w0_j21_6)] [] := by
      intro y3_j49_8 kc_j49_8 ks_j49_8 a_ b_ hf hb
      rw [f_J6_grow_j49_8] at hf
      refine rb_aload_n C dJ6_grow_49 rfl 0 rfl ?_
      refine rb_aload_n C dJ6_grow_50 rfl 0 rfl ?_
      obtain ⟨v_9, e_10, hf⟩ := rb_bd hf
      refine rb_hP C fl_J6_3_J6 e_10 dJ6_grow_51 ?_
      refine rb_iload_n C dJ6_grow_54 rfl 3 rfl ?_
      obtain ⟨⟨r_12, h_13, k_14, s_15⟩, e_16, hf⟩ := rb_bd hf
      obtain ⟨a_19, b_20, hf, ea_17, eb_18⟩ := ad_at hf
      refine rb_callS (As := [.ref v_9, .int y3_j49_8]) (rest := [.ref o]) C mi_J9_copyOf_2 ss_J6_14 (ct_J9_copyOf_2 Ev h n v_9 y3_j49_8 r_12 _ _ _ e_16) rfl rfl (Nat.le_of_ble_eq_true rfl) ⟨Nat.le_of_ble_eq_true rfl, Nat.le_of_ble_eq_true rfl, Bd.c1 hb ea_17, Bd.s1 hb eb_18⟩ dJ6_grow_55 rb_xX (rb_kX (rb_w (kc := (kc_j49_8 + k_14)) (ks := (ks_j49_8 + s_15)) rfl rfl ?_))
      have hb := Bd.ade hb ea_17 eb_18
      refine rb_dup_x1 C dJ6_grow_58 rfl rfl ?_
      obtain ⟨h_21, e_22, hf⟩ := rb_bd hf
      refine rb_hput C fw_J6_3_J6 e_22 rfl rfl dJ6_grow_59 ?_
      refine rb_astore (lv' := [(5, .ref r_12), (0, .ref o), (1, .int x1), (2, .int (nI v_3)), (3, .int y3_j49_8), (4, .int w0_j21_6)]) C dJ6_grow_62 (by decide) rfl ?_
      refine rb_aload_n C dJ6_grow_64 rfl 1 rfl ?_
      obtain ⟨v_23, e_24, hf⟩ := rb_bd hf
      refine rb_hI C fl_J6_20_J6 e_24 dJ6_grow_65 ?_
      refine rb_aload_n C dJ6_grow_68 rfl 1 rfl ?_
      obtain ⟨v_25, e_26, hf⟩ := rb_bd hf
      refine rb_hI C fl_J6_24_J6 e_26 dJ6_grow_69 ?_
      refine rb_icmp_lt (tgt := 96) C dJ6_grow_72 (by decide) (fun c_27 => ?_) (fun c_27 => ?_)
      · have hf := (if_pos c_27).symm.trans hf
        refine rb_iload_n C dJ6_grow_96 rfl 4 rfl ?_
        refine rb_iload_n C dJ6_grow_97 rfl 3 rfl ?_
        refine rb_isub C dJ6_grow_98 ?_
        refine rb_istore (lv' := [(6, .int (y3_j49_8 - (nI v_3))), (5, .ref r_12), (0, .ref o), (1, .int x1), (2, .int (nI v_3)), (3, .int y3_j49_8), (4, .int w0_j21_6)]) C dJ6_grow_99 (by decide) rfl ?_
        refine rb_aload C dJ6_grow_101 1 rfl ?_
        refine rb_aload_n C dJ6_grow_103 rfl 2 rfl ?_
        obtain ⟨v_28, e_29, hf⟩ := rb_bd hf
        refine rb_hI C fl_J6_24_J6 e_29 dJ6_grow_104 ?_
        refine rb_aload C dJ6_grow_107 1 rfl ?_
        refine rb_aload_n C dJ6_grow_109 rfl 2 rfl ?_
        obtain ⟨v_30, e_31, hf⟩ := rb_bd hf
        refine rb_hI C fl_J6_24_J6 e_31 dJ6_grow_110 ?_
        refine rb_iload C dJ6_grow_113 0 rfl ?_
        refine rb_iadd C dJ6_grow_115 ?_
        refine rb_iload_n C dJ6_grow_116 rfl 4 rfl ?_
        refine rb_aload_n C dJ6_grow_117 rfl 2 rfl ?_
        obtain ⟨v_32, e_33, hf⟩ := rb_bd hf
        refine rb_hI C fl_J6_24_J6 e_33 dJ6_grow_118 ?_
        refine rb_isub C dJ6_grow_121 ?_
        obtain ⟨h_34, e_35, hf⟩ := rb_bd hf
        refine rb_hcpa C 6 obL q1323 q310 q309 q83 rfl obL_ok e_35 (Nat.le_of_ble_eq_true rfl) (Nat.le_of_ble_eq_true rfl) dJ6_grow_122 ?_
        refine rb_aload_n C dJ6_grow_125 rfl 2 rfl ?_
        obtain ⟨v_36, e_37, hf⟩ := rb_bd hf
        refine rb_hI C fl_J6_24_J6 e_37 dJ6_grow_126 ?_
        refine rb_istore (lv' := [(7, .int v_36), (6, .int (y3_j49_8 - (nI v_3))), (5, .ref r_12), (0, .ref o), (1, .int x1), (2, .int (nI v_3)), (3, .int y3_j49_8), (4, .int w0_j21_6)]) C dJ6_grow_129 (by decide) rfl ?_
        refine rb_aload_n C dJ6_grow_131 rfl 3 rfl ?_
        refine rb_dup C dJ6_grow_132 rfl ?_
        obtain ⟨v_38, e_39, hf⟩ := rb_bd hf
        refine rb_hI C fl_J6_24_J6 e_39 dJ6_grow_133 ?_
        refine rb_iload C dJ6_grow_136 1 rfl ?_
        refine rb_iadd C dJ6_grow_138 ?_
        refine rb_dup_x1 C dJ6_grow_139 rfl rfl ?_
        obtain ⟨h_40, e_41, hf⟩ := rb_bd hf
        refine rb_hput C fw_J6_24_J6 e_41 rfl rfl dJ6_grow_140 ?_
        refine rb_istore (lv' := [(8, .int (v_38 + (y3_j49_8 - (nI v_3)))), (7, .int v_36), (6, .int (y3_j49_8 - (nI v_3))), (5, .ref r_12), (0, .ref o), (1, .int x1), (2, .int (nI v_3)), (3, .int y3_j49_8), (4, .int w0_j21_6)]) C dJ6_grow_143 (by decide) rfl ?_
        have L_l145_42 : ∀ (k_l145_42 : Nat) (y7_l145_42 : Int32) (h_l145_42 : AH) (n_l145_42 kc_l145_42 ks_l145_42 a_ b_ : Nat), f_J6_grow_l145_42 Ev v_3 y3_j49_8 r_12 v_38 k_l145_42 y7_l145_42 h_l145_42 n_l145_42 = some (r, h', a_, b_) → Bd (n + k) k s n_l145_42 kc_l145_42 ks_l145_42 a_ b_ → Wa Ev X (rm_J6_grow k s) 9 h_l145_42 n_l145_42 kc_l145_42 ks_l145_42 (rb_MQ Ev X (rm_J6_grow k s) (pX (.inl (none)) h' (n + k))) 145 [(0, .ref o), (1, .int x1), (2, .int (nI v_3)), (3, .int y3_j49_8), (4, .int w0_j21_6), (5, .ref r_12), (6, .int (y3_j49_8 - (nI v_3))), (7, .int y7_l145_42), (8, .int (v_38 + (y3_j49_8 - (nI v_3))))] [] := by
          intro k_l145_42
          induction k_l145_42 with
          | zero => intro y7_l145_42 h_l145_42 n_l145_42 kc_l145_42 ks_l145_42 a_ b_ hf hb; cases hf
          | succ k_l145_42 ih_l145_42 =>
            intro y7_l145_42 h_l145_42 n_l145_42 kc_l145_42 ks_l145_42 a_ b_ hf hb
            rw [f_J6_grow_l145_42] at hf
            refine rb_iload C dJ6_grow_145 7 rfl ?_
            refine rb_iload C dJ6_grow_147 8 rfl ?_
            refine rb_icmp_ge (tgt := 164) C dJ6_grow_149 (by decide) (fun c_43 => ?_) (fun c_43 => ?_)
            · have hf := (if_pos c_43).symm.trans hf
              cases hf
              exact rb_vret C rfl hb.e.2.1 hb.e.2.2 dJ6_grow_164 ⟨rfl, rfl, hb.e.1⟩
            · have hf := (if_neg c_43).symm.trans hf
              refine rb_aload C dJ6_grow_152 5 rfl ?_
              refine rb_iload C dJ6_grow_154 7 rfl ?_
              refine rb_null C dJ6_grow_156 ?_
              obtain ⟨h_44, e_45, hf⟩ := rb_bd hf
              refine rb_hasN C 6 rfl e_45 dJ6_grow_157 ?_
              refine rb_iinc (v := (y7_l145_42 + 1)) (lv' := [(7, .int (y7_l145_42 + 1)), (0, .ref o), (1, .int x1), (2, .int (nI v_3)), (3, .int y3_j49_8), (4, .int w0_j21_6), (5, .ref r_12), (6, .int (y3_j49_8 - (nI v_3))), (8, .int (v_38 + (y3_j49_8 - (nI v_3))))]) C dJ6_grow_158 (k := 7) rfl rfl (by decide) rfl ?_
              refine rb_goto (tgt := 145) C dJ6_grow_161 (by decide) ?_
              refine rb_sub [1, 2, 3, 4, 5, 6, 7, 0, 8] rfl ?_
              exact ih_l145_42 (y7_l145_42 + 1) h_44 n_l145_42 _ _ _ _ hf hb
        refine rb_sub [4, 5, 6, 7, 8, 3, 2, 1, 0] rfl ?_
        exact L_l145_42 4096 v_36 h_40 (n + k_14) _ _ _ _ hf hb
      · have hf := (if_neg c_27).symm.trans hf
        refine rb_aload_n C dJ6_grow_75 rfl 1 rfl ?_
        obtain ⟨v_46, e_47, hf⟩ := rb_bd hf
        refine rb_hI C fl_J6_20_J6 e_47 dJ6_grow_76 ?_
        refine rb_aload_n C dJ6_grow_79 rfl 1 rfl ?_
        obtain ⟨v_48, e_49, hf⟩ := rb_bd hf
        refine rb_hI C fl_J6_24_J6 e_49 dJ6_grow_80 ?_
        refine rb_icmp_ne (tgt := 164) C dJ6_grow_83 (by decide) (fun c_50 => ?_) (fun c_50 => ?_)
        · have hf := (if_neg c_50).symm.trans hf
          cases hf
          exact rb_vret C rfl hb.e.2.1 hb.e.2.2 dJ6_grow_164 ⟨rfl, rfl, hb.e.1⟩
        · have hf := (if_pos c_50).symm.trans hf
          refine rb_aload C dJ6_grow_86 0 rfl ?_
          refine rb_aload_n C dJ6_grow_88 rfl 1 rfl ?_
          obtain ⟨v_51, e_52, hf⟩ := rb_bd hf
          refine rb_hI C fl_J6_24_J6 e_52 dJ6_grow_89 ?_
          obtain ⟨v_53, e_54, hf⟩ := rb_bd hf
          refine rb_hap C 6 rfl rfl e_54 dJ6_grow_92 ?_
          refine rb_ifnull C dJ6_grow_93 ?_
          refine rb_iload_n C dJ6_grow_96 rfl 4 rfl ?_
          refine rb_iload_n C dJ6_grow_97 rfl 3 rfl ?_
          refine rb_isub C dJ6_grow_98 ?_
          refine rb_istore (lv' := [(6, .int (y3_j49_8 - (nI v_3))), (5, .ref r_12), (0, .ref o), (1, .int x1), (2, .int (nI v_3)), (3, .int y3_j49_8), (4, .int w0_j21_6)]) C dJ6_grow_99 (by decide) rfl ?_
          refine rb_aload C dJ6_grow_101 1 rfl ?_
          refine rb_aload_n C dJ6_grow_103 rfl 2 rfl ?_
          obtain ⟨v_55, e_56, hf⟩ := rb_bd hf
          refine rb_hI C fl_J6_24_J6 e_56 dJ6_grow_104 ?_
          refine rb_aload C dJ6_grow_107 1 rfl ?_
          refine rb_aload_n C dJ6_grow_109 rfl 2 rfl ?_
          obtain ⟨v_57, e_58, hf⟩ := rb_bd hf
          refine rb_hI C fl_J6_24_J6 e_58 dJ6_grow_110 ?_
          refine rb_iload C dJ6_grow_113 0 rfl ?_
          refine rb_iadd C dJ6_grow_115 ?_
          refine rb_iload_n C dJ6_grow_116 rfl 4 rfl ?_
          refine rb_aload_n C dJ6_grow_117 rfl 2 rfl ?_
          obtain ⟨v_59, e_60, hf⟩ := rb_bd hf
          refine rb_hI C fl_J6_24_J6 e_60 dJ6_grow_118 ?_
          refine rb_isub C dJ6_grow_121 ?_
          obtain ⟨h_61, e_62, hf⟩ := rb_bd hf
          refine rb_hcpa C 6 obL q1323 q310 q309 q83 rfl obL_ok e_62 (Nat.le_of_ble_eq_true rfl) (Nat.le_of_ble_eq_true rfl) dJ6_grow_122 ?_
          refine rb_aload_n C dJ6_grow_125 rfl 2 rfl ?_
          obtain ⟨v_63, e_64, hf⟩ := rb_bd hf
          refine rb_hI C fl_J6_24_J6 e_64 dJ6_grow_126 ?_
          refine rb_istore (lv' := [(7, .int v_63), (6, .int (y3_j49_8 - (nI v_3))), (5, .ref r_12), (0, .ref o), (1, .int x1), (2, .int (nI v_3)), (3, .int y3_j49_8), (4, .int w0_j21_6)]) C dJ6_grow_129 (by decide) rfl ?_
          refine rb_aload_n C dJ6_grow_131 rfl 3 rfl ?_
          refine rb_dup C dJ6_grow_132 rfl ?_
          obtain ⟨v_65, e_66, hf⟩ := rb_bd hf
          refine rb_hI C fl_J6_24_J6 e_66 dJ6_grow_133 ?_
          refine rb_iload C dJ6_grow_136 1 rfl ?_
          refine rb_iadd C dJ6_grow_138 ?_
          refine rb_dup_x1 C dJ6_grow_139 rfl rfl ?_
          obtain ⟨h_67, e_68, hf⟩ := rb_bd hf
          refine rb_hput C fw_J6_24_J6 e_68 rfl rfl dJ6_grow_140 ?_
          refine rb_istore (lv' := [(8, .int (v_65 + (y3_j49_8 - (nI v_3)))), (7, .int v_63), (6, .int (y3_j49_8 - (nI v_3))), (5, .ref r_12), (0, .ref o), (1, .int x1), (2, .int (nI v_3)), (3, .int y3_j49_8), (4, .int w0_j21_6)]) C dJ6_grow_143 (by decide) rfl ?_
          have L_l145_69 : ∀ (k_l145_69 : Nat) (y7_l145_69 : Int32) (h_l145_69 : AH) (n_l145_69 kc_l145_69 ks_l145_69 a_ b_ : Nat), f_J6_grow_l145_69 Ev v_3 y3_j49_8 r_12 v_65 k_l145_69 y7_l145_69 h_l145_69 n_l145_69 = some (r, h', a_, b_) → Bd (n + k) k s n_l145_69 kc_l145_69 ks_l145_69 a_ b_ → Wa Ev X (rm_J6_grow k s) 9 h_l145_69 n_l145_69 kc_l145_69 ks_l145_69 (rb_MQ Ev X (rm_J6_grow k s) (pX (.inl (none)) h' (n + k))) 145 [(0, .ref o), (1, .int x1), (2, .int (nI v_3)), (3, .int y3_j49_8), (4, .int w0_j21_6), (5, .ref r_12), (6, .int (y3_j49_8 - (nI v_3))), (7, .int y7_l145_69), (8, .int (v_65 + (y3_j49_8 - (nI v_3))))] [] := by
            intro k_l145_69
            induction k_l145_69 with
            | zero => intro y7_l145_69 h_l145_69 n_l145_69 kc_l145_69 ks_l145_69 a_ b_ hf hb; cases hf
            | succ k_l145_69 ih_l145_69 =>
              intro y7_l145_69 h_l145_69 n_l145_69 kc_l145_69 ks_l145_69 a_ b_ hf hb
              rw [f_J6_grow_l145_69] at hf
              refine rb_iload C dJ6_grow_145 7 rfl ?_
              refine rb_iload C dJ6_grow_147 8 rfl ?_
              refine rb_icmp_ge (tgt := 164) C dJ6_grow_149 (by decide) (fun c_70 => ?_) (fun c_70 => ?_)
              · have hf := (if_pos c_70).symm.trans hf
                cases hf
                exact rb_vret C rfl hb.e.2.1 hb.e.2.2 dJ6_grow_164 ⟨rfl, rfl, hb.e.1⟩
              · have hf := (if_neg c_70).symm.trans hf
                refine rb_aload C dJ6_grow_152 5 rfl ?_
                refine rb_iload C dJ6_grow_154 7 rfl ?_
                refine rb_null C dJ6_grow_156 ?_
                obtain ⟨h_71, e_72, hf⟩ := rb_bd hf
                refine rb_hasN C 6 rfl e_72 dJ6_grow_157 ?_
                refine rb_iinc (v := (y7_l145_69 + 1)) (lv' := [(7, .int (y7_l145_69 + 1)), (0, .ref o), (1, .int x1), (2, .int (nI v_3)), (3, .int y3_j49_8), (4, .int w0_j21_6), (5, .ref r_12), (6, .int (y3_j49_8 - (nI v_3))), (8, .int (v_65 + (y3_j49_8 - (nI v_3))))]) C dJ6_grow_158 (k := 7) rfl rfl (by decide) rfl ?_
                refine rb_goto (tgt := 145) C dJ6_grow_161 (by decide) ?_
                refine rb_sub [1, 2, 3, 4, 5, 6, 7, 0, 8] rfl ?_
                exact ih_l145_69 (y7_l145_69 + 1) h_71 n_l145_69 _ _ _ _ hf hb
          refine rb_sub [4, 5, 6, 7, 8, 3, 2, 1, 0] rfl ?_
          exact L_l145_69 4096 v_63 h_67 (n + k_14) _ _ _ _ hf hb
    refine rb_icmp_lt (tgt := 41) C dJ6_grow_26 (by decide) (fun c_7 => ?_) (fun c_7 => ?_)
    · have hf := (if_pos c_7).symm.trans hf
      refine rb_aload_n C dJ6_grow_41 rfl 1 rfl ?_
      refine rb_iload_n C dJ6_grow_42 rfl 2 rfl ?_
      refine rb_iload C dJ6_grow_43 0 rfl ?_
      obtain ⟨u_73, e_74, hf⟩ := rb_bd hf
      obtain ⟨v_76, e_77, hf⟩ := rb_bd hf
      refine rb_callV (As := [.int x1, .int w0_j21_6]) (rest := []) C mi_J6_newCapacity sv_J6_10 (hp_k_isC C.pf e_74 ck_J6) (ct_J6_newCapacity Ev h n o x1 w0_j21_6 _ e_77) rfl rfl (Nat.le_of_ble_eq_true rfl) ⟨Nat.le_of_ble_eq_true rfl, Nat.le_of_ble_eq_true rfl, hb.c0, hb.s0⟩ dJ6_grow_45 rb_xXi (rb_kXi fun hn_75 => (rb_w (kc := kc_j21_6) (ks := ks_j21_6) rfl rfl ?_))
      refine rb_istore_n (lv' := [(3, .int v_76), (4, .int w0_j21_6), (0, .ref o), (1, .int x1), (2, .int (nI v_3))]) C dJ6_grow_48 rfl (by decide) rfl ?_
      refine rb_sub [2, 3, 4, 0, 1] rfl ?_
      exact J_j49_8 v_76  _ _ _ _ hf hb
    · have hf := (if_neg c_7).symm.trans hf
      refine rb_iload_n C dJ6_grow_29 rfl 3 rfl ?_
      refine rb_iload C dJ6_grow_30 0 rfl ?_
      refine rb_iadd C dJ6_grow_32 ?_
      refine rb_dup C dJ6_grow_33 rfl ?_
      refine rb_istore_n (lv' := [(3, .int ((nI v_3) + w0_j21_6)), (4, .int w0_j21_6), (0, .ref o), (1, .int x1), (2, .int (nI v_3))]) C dJ6_grow_34 rfl (by decide) rfl ?_
      refine rb_ldc C q1253 dJ6_grow_35 ?_
      refine rb_isub C dJ6_grow_37 ?_
      refine rb_if_le (tgt := 49) C dJ6_grow_38 (by decide) (fun c_78 => ?_) (fun c_78 => ?_)
      · have hf := (if_pos c_78).symm.trans hf
        refine rb_sub [2, 3, 4, 0, 1] rfl ?_
        exact J_j49_8 ((nI v_3) + w0_j21_6)  _ _ _ _ hf hb
      · have hf := (if_neg c_78).symm.trans hf
        refine rb_aload_n C dJ6_grow_41 rfl 2 rfl ?_
        refine rb_iload_n C dJ6_grow_42 rfl 3 rfl ?_
        refine rb_iload C dJ6_grow_43 1 rfl ?_
        obtain ⟨u_79, e_80, hf⟩ := rb_bd hf
        obtain ⟨v_82, e_83, hf⟩ := rb_bd hf
        refine rb_callV (As := [.int x1, .int w0_j21_6]) (rest := []) C mi_J6_newCapacity sv_J6_10 (hp_k_isC C.pf e_80 ck_J6) (ct_J6_newCapacity Ev h n o x1 w0_j21_6 _ e_83) rfl rfl (Nat.le_of_ble_eq_true rfl) ⟨Nat.le_of_ble_eq_true rfl, Nat.le_of_ble_eq_true rfl, hb.c0, hb.s0⟩ dJ6_grow_45 rb_xXi (rb_kXi fun hn_81 => (rb_w (kc := kc_j21_6) (ks := ks_j21_6) rfl rfl ?_))
        refine rb_istore_n (lv' := [(3, .int v_82), (4, .int w0_j21_6), (0, .ref o), (1, .int x1), (2, .int (nI v_3))]) C dJ6_grow_48 rfl (by decide) rfl ?_
        refine rb_sub [2, 3, 4, 0, 1] rfl ?_
        exact J_j49_8 v_82  _ _ _ _ hf hb
  refine rb_icmp_ge (tgt := 18) C dJ6_grow_9 (by decide) (fun c_5 => ?_) (fun c_5 => ?_)
  · have hf := (if_pos c_5).symm.trans hf
    refine rb_iload_n C dJ6_grow_18 rfl 0 rfl ?_
    refine rb_iconst (v := 1) C dJ6_grow_19 rfl ?_
    refine rb_ishr C dJ6_grow_20 ?_
    refine rb_sub [1, 2, 0] rfl ?_
    exact J_j21_6 ((nI v_3) >>> (1 &&& 31))  _ _ _ _ hf hb
  · have hf := (if_neg c_5).symm.trans hf
    refine rb_iload_n C dJ6_grow_12 rfl 0 rfl ?_
    refine rb_iconst (v := 2) C dJ6_grow_13 rfl ?_
    refine rb_iadd C dJ6_grow_14 ?_
    refine rb_goto (tgt := 21) C dJ6_grow_15 (by decide) ?_
    refine rb_sub [1, 2, 0] rfl ?_
    exact J_j21_6 ((nI v_3) + 2)  _ _ _ _ hf hb
def f_J6_addFirst (Ev : rb_E) (h : AH) (n : Nat) (o : Nat) (x1 : Nat) : Option (Unit × AH × Nat × Nat) := ((hp_p Ev h o 15 0).bind fun v_1 => ((hp_i Ev h o 15 1).bind fun v_3 => ((hp_len Ev h v_1 6).bind fun v_5 => ((hp_put h o 15 1 (.int (f_J6_dec v_3 (nI v_5)))).bind fun h_8 => ((hp_ca Ev h_8 x1 obL).bind fun u_11 => ((hp_as Ev h_8 6 v_1 (f_J6_dec v_3 (nI v_5)) (some x1)).bind fun h_10 => ((hp_i Ev h_10 o 15 1).bind fun v_14 => ((hp_i Ev h_10 o 15 2).bind fun v_16 => (if v_14 = v_16 then ((hp_k Ev h_10 o 15).bind fun u_19 => ((f_J6_grow Ev h_10 n o 1).bind fun (r_22, h_23, k_24, s_25) => (ad k_24 s_25 (some ((), h_23, 0, 0))))) else (some ((), h_10, 0, 0)))))))))))
abbrev rm_J6_addFirst (k s : Nat) : Room := { frames := 4, cells := k, slots := s, locals := 132 }
set_option maxHeartbeats 4000000 in
theorem ct_J6_addFirst (Ev : rb_E) (h : AH) (n : Nat) (o : Nat) (x1 : Nat) (r : Unit) (h' : AH) (k s : Nat) (hf : f_J6_addFirst Ev h n o x1 = some (r, h', k, s)) : Ct Ev yJ6_addFirst (ws_ yJ6_addFirst cJ6_addFirst 3 none) (rm_J6_addFirst k s) [.ref o, .ref x1] h n (pX (.inl (none)) h' (n + k)) := by
  rw [f_J6_addFirst] at hf
  refine Ct.of rfl (Nat.le_of_ble_eq_true rfl) fun X C hnm => ?_
  have C : Cx Ev X RJ6 cJ6_addFirst 3 none [] := C
  show Wa Ev X (rm_J6_addFirst k s) 3 h n 0 0 (rb_MQ Ev X (rm_J6_addFirst k s) (pX (.inl (none)) h' (n + k))) 0 [(0, .ref o), (1, .ref x1)] []
  have hb : Bd (n + k) k s n 0 0 k s := ⟨rfl, Nat.le_of_eq (Nat.zero_add _), Nat.le_of_eq (Nat.zero_add _)⟩
  refine rb_aload_n C dJ6_addFirst_0 rfl 1 rfl ?_
  refine rb_ifnonnull (tgt := 12) C dJ6_addFirst_1 (by decide) ?_
  refine rb_aload_n C dJ6_addFirst_12 rfl 0 rfl ?_
  obtain ⟨v_1, e_2, hf⟩ := rb_bd hf
  refine rb_hP C fl_J6_3_J6 e_2 dJ6_addFirst_13 ?_
  refine rb_astore_n (lv' := [(2, .ref v_1), (0, .ref o), (1, .ref x1)]) C dJ6_addFirst_16 rfl (by decide) rfl ?_
  refine rb_aload_n C dJ6_addFirst_17 rfl 0 rfl ?_
  refine rb_aload_n C dJ6_addFirst_18 rfl 1 rfl ?_
  refine rb_aload_n C dJ6_addFirst_19 rfl 1 rfl ?_
  obtain ⟨v_3, e_4, hf⟩ := rb_bd hf
  refine rb_hI C fl_J6_24_J6 e_4 dJ6_addFirst_20 ?_
  refine rb_aload_n C dJ6_addFirst_23 rfl 0 rfl ?_
  obtain ⟨v_5, e_6, hf⟩ := rb_bd hf
  refine rb_hlen (t := 6) C rfl e_6 dJ6_addFirst_24 ?_
  refine rb_callS (As := [.int v_3, .int (nI v_5)]) (rest := [.ref o, .ref v_1]) C mi_J6_dec ss_J6_68 (ct_J6_dec Ev h n v_3 (nI v_5) _ rfl) rfl rfl (Nat.le_of_ble_eq_true rfl) ⟨Nat.le_of_ble_eq_true rfl, Nat.le_of_ble_eq_true rfl, hb.c0, hb.s0⟩ dJ6_addFirst_25 rb_xXi (rb_kXi fun hn_7 => (rb_w (kc := 0) (ks := 0) rfl rfl ?_))
  refine rb_dup_x1 C dJ6_addFirst_28 rfl rfl ?_
  obtain ⟨h_8, e_9, hf⟩ := rb_bd hf
  refine rb_hput C fw_J6_24_J6 e_9 rfl rfl dJ6_addFirst_29 ?_
  refine rb_aload_n C dJ6_addFirst_32 rfl 2 rfl ?_
  obtain ⟨u_11, e_12, hf⟩ := rb_bd hf
  obtain ⟨h_10, e_13, hf⟩ := rb_bd hf
  refine rb_hasL C 6 obL rfl obL_ok e_12 e_13 dJ6_addFirst_33 ?_
  refine rb_aload_n C dJ6_addFirst_34 rfl 1 rfl ?_
  obtain ⟨v_14, e_15, hf⟩ := rb_bd hf
  refine rb_hI C fl_J6_24_J6 e_15 dJ6_addFirst_35 ?_
  refine rb_aload_n C dJ6_addFirst_38 rfl 1 rfl ?_
  obtain ⟨v_16, e_17, hf⟩ := rb_bd hf
  refine rb_hI C fl_J6_20_J6 e_17 dJ6_addFirst_39 ?_
  refine rb_icmp_ne (tgt := 50) C dJ6_addFirst_42 (by decide) (fun c_18 => ?_) (fun c_18 => ?_)
  · have hf := (if_neg c_18).symm.trans hf
    cases hf
    exact rb_vret C rfl hb.e.2.1 hb.e.2.2 dJ6_addFirst_50 ⟨rfl, rfl, hb.e.1⟩
  · have hf := (if_pos c_18).symm.trans hf
    refine rb_aload_n C dJ6_addFirst_45 rfl 1 rfl ?_
    refine rb_iconst (v := 1) C dJ6_addFirst_46 rfl ?_
    obtain ⟨u_19, e_20, hf⟩ := rb_bd hf
    obtain ⟨⟨r_22, h_23, k_24, s_25⟩, e_26, hf⟩ := rb_bd hf
    obtain ⟨a_29, b_30, hf, ea_27, eb_28⟩ := ad_at hf
    refine rb_callV (As := [.int 1]) (rest := []) C mi_J6_grow sv_J6_71 (hp_k_isC C.pf e_20 ck_J6) (ct_J6_grow Ev h_10 n o 1 r_22 _ _ _ e_26) rfl rfl (Nat.le_of_ble_eq_true rfl) ⟨Nat.le_of_ble_eq_true rfl, Nat.le_of_ble_eq_true rfl, Bd.c1 hb ea_27, Bd.s1 hb eb_28⟩ dJ6_addFirst_47 rb_xX (rb_kX (rb_w (kc := (0 + k_24)) (ks := (0 + s_25)) rfl rfl ?_))
    have hb := Bd.ade hb ea_27 eb_28
    cases hf
    exact rb_vret C rfl hb.e.2.1 hb.e.2.2 dJ6_addFirst_50 ⟨rfl, rfl, hb.e.1⟩
def f_J6_push (Ev : rb_E) (h : AH) (n : Nat) (o : Nat) (x1 : Nat) : Option (Unit × AH × Nat × Nat) := ((hp_k Ev h o 15).bind fun u_1 => ((f_J6_addFirst Ev h n o x1).bind fun (r_4, h_5, k_6, s_7) => (ad k_6 s_7 (some ((), h_5, 0, 0)))))
abbrev rm_J6_push (k s : Nat) : Room := { frames := 5, cells := k, slots := s, locals := 154 }
set_option maxHeartbeats 4000000 in
theorem ct_J6_push (Ev : rb_E) (h : AH) (n : Nat) (o : Nat) (x1 : Nat) (r : Unit) (h' : AH) (k s : Nat) (hf : f_J6_push Ev h n o x1 = some (r, h', k, s)) : Ct Ev yJ6_push (ws_ yJ6_push cJ6_push 2 none) (rm_J6_push k s) [.ref o, .ref x1] h n (pX (.inl (none)) h' (n + k)) := by
  rw [f_J6_push] at hf
  refine Ct.of rfl (Nat.le_of_ble_eq_true rfl) fun X C hnm => ?_
  have C : Cx Ev X RJ6 cJ6_push 2 none [] := C
  show Wa Ev X (rm_J6_push k s) 2 h n 0 0 (rb_MQ Ev X (rm_J6_push k s) (pX (.inl (none)) h' (n + k))) 0 [(0, .ref o), (1, .ref x1)] []
  have hb : Bd (n + k) k s n 0 0 k s := ⟨rfl, Nat.le_of_eq (Nat.zero_add _), Nat.le_of_eq (Nat.zero_add _)⟩
  refine rb_aload_n C dJ6_push_0 rfl 0 rfl ?_
  refine rb_aload_n C dJ6_push_1 rfl 1 rfl ?_
  obtain ⟨u_1, e_2, hf⟩ := rb_bd hf
  obtain ⟨⟨r_4, h_5, k_6, s_7⟩, e_8, hf⟩ := rb_bd hf
  obtain ⟨a_11, b_12, hf, ea_9, eb_10⟩ := ad_at hf
  refine rb_callV (As := [.ref x1]) (rest := []) C mi_J6_addFirst sv_J6_86 (hp_k_isC C.pf e_2 ck_J6) (ct_J6_addFirst Ev h n o x1 r_4 _ _ _ e_8) rfl rfl (Nat.le_of_ble_eq_true rfl) ⟨Nat.le_of_ble_eq_true rfl, Nat.le_of_ble_eq_true rfl, Bd.c1 hb ea_9, Bd.s1 hb eb_10⟩ dJ6_push_2 rb_xX (rb_kX (rb_w (kc := (0 + k_6)) (ks := (0 + s_7)) rfl rfl ?_))
  have hb := Bd.ade hb ea_9 eb_10
  cases hf
  exact rb_vret C rfl hb.e.2.1 hb.e.2.2 dJ6_push_5 ⟨rfl, rfl, hb.e.1⟩
def f_X1_replaceBy_j23_9 (Ev : rb_E) (o : Nat) (x1 : Nat) (x2 : Int32) (h_j23_9 : AH) (n_j23_9 : Nat) : Option (Int32 × AH × Nat × Nat) := ((hp_p Ev h_j23_9 o 0 1).bind fun v_10 => ((hp_p Ev h_j23_9 o 0 0).bind fun v_12 => ((hp_k Ev h_j23_9 v_10 15).bind fun u_14 => ((f_J6_push Ev h_j23_9 n_j23_9 v_10 v_12).bind fun (r_17, h_18, k_19, s_20) => (ad k_19 s_20 ((hp_put h_18 o 0 0 (.ref x1)).bind fun h_26 => (some (x2, h_26, 0, 0))))))))
def f_X1_replaceBy (Ev : rb_E) (h : AH) (n : Nat) (o : Nat) (x1 : Nat) (x2 : Int32) : Option (Int32 × AH × Nat × Nat) := ((hp_p Ev h o 0 1).bind fun v_1 => ((hp_k Ev h v_1 15).bind fun u_3 => ((f_J6_size Ev h v_1).bind fun v_6 => (if v_6 = 8 then ((hp_p Ev h o 0 1).bind fun v_28 => ((hp_k Ev h v_28 15).bind fun u_30 => ((f_J6_removeLast Ev h n v_28).bind fun (r_33, h_34, k_35, s_36) => (ad k_35 s_36 ((hp_ca Ev h_34 r_33 [1]).bind fun u_42 => (f_X1_replaceBy_j23_9 Ev o x1 x2 h_34 (n + k_35))))))) else (f_X1_replaceBy_j23_9 Ev o x1 x2 h n)))))
abbrev rm_X1_replaceBy (k s : Nat) : Room := { frames := 6, cells := k, slots := s, locals := 175 }
set_option maxHeartbeats 4000000 in
theorem ct_X1_replaceBy (Ev : rb_E) (h : AH) (n : Nat) (o : Nat) (x1 : Nat) (x2 : Int32) (r : Int32) (h' : AH) (k s : Nat) (hf : f_X1_replaceBy Ev h n o x1 x2 = some (r, h', k, s)) : Ct Ev yX1_replaceBy (ws_ yX1_replaceBy cX1_replaceBy 4 (some .int)) (rm_X1_replaceBy k s) [.ref o, .ref x1, .int x2] h n (pXi .int r h' (n + k)) := by
  rw [f_X1_replaceBy] at hf
  refine Ct.of rfl (Nat.le_of_ble_eq_true rfl) fun X C hnm => ?_
  have C : Cx Ev X RX1 cX1_replaceBy 4 (some .int) [] := C
  show Wa Ev X (rm_X1_replaceBy k s) 4 h n 0 0 (rb_MQ Ev X (rm_X1_replaceBy k s) (pXi .int r h' (n + k))) 0 [(0, .ref o), (1, .ref x1), (2, .int x2)] []
  have hb : Bd (n + k) k s n 0 0 k s := ⟨rfl, Nat.le_of_eq (Nat.zero_add _), Nat.le_of_eq (Nat.zero_add _)⟩
  refine rb_aload_n C dX1_replaceBy_0 rfl 0 rfl ?_
  obtain ⟨v_1, e_2, hf⟩ := rb_bd hf
  refine rb_hP C fl_X1_111_X1 e_2 dX1_replaceBy_1 ?_
  obtain ⟨u_3, e_4, hf⟩ := rb_bd hf
  obtain ⟨v_6, e_7, hf⟩ := rb_bd hf
  refine rb_callV (As := []) (rest := []) C mi_J6_size sv_X1_127 (hp_k_isC C.pf e_4 ck_J6) (ct_J6_size Ev h n v_1 _ e_7) rfl rfl (Nat.le_of_ble_eq_true rfl) ⟨Nat.le_of_ble_eq_true rfl, Nat.le_of_ble_eq_true rfl, hb.c0, hb.s0⟩ dX1_replaceBy_4 rb_xXi (rb_kXi fun hn_5 => (rb_w (kc := 0) (ks := 0) rfl rfl ?_))
  refine rb_bipush (v := 8) C dX1_replaceBy_7 rfl ?_
  have J_j23_9 : ∀ (h_j23_9 : AH) (n_j23_9 : Nat) (kc_j23_9 ks_j23_9 a_ b_ : Nat), f_X1_replaceBy_j23_9 Ev o x1 x2 h_j23_9 n_j23_9 = some (r, h', a_, b_) → Bd (n + k) k s n_j23_9 kc_j23_9 ks_j23_9 a_ b_ → Wa Ev X (rm_X1_replaceBy k s) 4 h_j23_9 n_j23_9 kc_j23_9 ks_j23_9 (rb_MQ Ev X (rm_X1_replaceBy k s) (pXi .int r h' (n + k))) 23 [(0, .ref o), (1, .ref x1), (2, .int x2)] [] := by
    intro h_j23_9 n_j23_9 kc_j23_9 ks_j23_9 a_ b_ hf hb
    rw [f_X1_replaceBy_j23_9] at hf
    refine rb_aload_n C dX1_replaceBy_23 rfl 0 rfl ?_
    obtain ⟨v_10, e_11, hf⟩ := rb_bd hf
    refine rb_hP C fl_X1_111_X1 e_11 dX1_replaceBy_24 ?_
    refine rb_aload_n C dX1_replaceBy_27 rfl 0 rfl ?_
    obtain ⟨v_12, e_13, hf⟩ := rb_bd hf
    refine rb_hP C fl_X1_104_X1 e_13 dX1_replaceBy_28 ?_
    obtain ⟨u_14, e_15, hf⟩ := rb_bd hf
    obtain ⟨⟨r_17, h_18, k_19, s_20⟩, e_21, hf⟩ := rb_bd hf
    obtain ⟨a_24, b_25, hf, ea_22, eb_23⟩ := ad_at hf
    refine rb_callV (As := [.ref v_12]) (rest := []) C mi_J6_push sv_X1_135 (hp_k_isC C.pf e_15 ck_J6) (ct_J6_push Ev h_j23_9 n_j23_9 v_10 v_12 r_17 _ _ _ e_21) rfl rfl (Nat.le_of_ble_eq_true rfl) ⟨Nat.le_of_ble_eq_true rfl, Nat.le_of_ble_eq_true rfl, Bd.c1 hb ea_22, Bd.s1 hb eb_23⟩ dX1_replaceBy_31 rb_xX (rb_kX (rb_w (kc := (kc_j23_9 + k_19)) (ks := (ks_j23_9 + s_20)) rfl rfl ?_))
    have hb := Bd.ade hb ea_22 eb_23
    refine rb_aload_n C dX1_replaceBy_34 rfl 0 rfl ?_
    refine rb_aload_n C dX1_replaceBy_35 rfl 1 rfl ?_
    obtain ⟨h_26, e_27, hf⟩ := rb_bd hf
    refine rb_hput C fw_X1_104_X1 e_27 rfl rfl dX1_replaceBy_36 ?_
    refine rb_iload_n C dX1_replaceBy_39 rfl 2 rfl ?_
    cases hf
    exact rb_iret C rfl rfl hb.e.2.1 hb.e.2.2 dX1_replaceBy_40 ⟨rfl, rfl, hb.e.1, rfl⟩
  refine rb_icmp_ne (tgt := 23) C dX1_replaceBy_9 (by decide) (fun c_8 => ?_) (fun c_8 => ?_)
  · have hf := (if_neg c_8).symm.trans hf
    exact J_j23_9 h n  _ _ _ _ hf hb
  · have hf := (if_pos c_8).symm.trans hf
    refine rb_aload_n C dX1_replaceBy_12 rfl 0 rfl ?_
    obtain ⟨v_28, e_29, hf⟩ := rb_bd hf
    refine rb_hP C fl_X1_111_X1 e_29 dX1_replaceBy_13 ?_
    obtain ⟨u_30, e_31, hf⟩ := rb_bd hf
    obtain ⟨⟨r_33, h_34, k_35, s_36⟩, e_37, hf⟩ := rb_bd hf
    obtain ⟨a_40, b_41, hf, ea_38, eb_39⟩ := ad_at hf
    refine rb_callV (As := []) (rest := []) C mi_J6_removeLast sv_X1_131 (hp_k_isC C.pf e_31 ck_J6) (ct_J6_removeLast Ev h n v_28 r_33 _ _ _ e_37) rfl rfl (Nat.le_of_ble_eq_true rfl) ⟨Nat.le_of_ble_eq_true rfl, Nat.le_of_ble_eq_true rfl, Bd.c1 hb ea_38, Bd.s1 hb eb_39⟩ dX1_replaceBy_16 rb_xX (rb_kX (rb_w (kc := (0 + k_35)) (ks := (0 + s_36)) rfl rfl ?_))
    have hb := Bd.ade hb ea_38 eb_39
    obtain ⟨u_42, e_43, hf⟩ := rb_bd hf
    refine rb_hca C q125 okp_RainbowOperators_Sheet e_43 dX1_replaceBy_19 ?_
    refine rb_astore_n (lv' := [(3, .ref r_33), (0, .ref o), (1, .ref x1), (2, .int x2)]) C dX1_replaceBy_22 rfl (by decide) rfl ?_
    refine rb_sub [1, 2, 3] rfl ?_
    exact J_j23_9 h_34 (n + k_35)  _ _ _ _ hf hb
