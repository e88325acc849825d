set_option maxRecDepth 100000
set_option linter.unusedVariables false
def f_X12_init_j159_109 (Ev : rb_E) (y3_l60_70 : Int32) (rec_l60_70 : Int32 → AH → Nat → Option (Unit × AH × Nat × Nat)) (v_103 : Nat) (w0_j159_109 : Nat) (h_j159_109 : AH) (n_j159_109 : Nat) : Option (Unit × AH × Nat × Nat) := ((hp_k Ev h_j159_109 v_103 13).bind fun u_110 => ((f_J1_append_3 Ev h_j159_109 n_j159_109 v_103 w0_j159_109).bind fun (r_113, h_114, k_115, s_116) => (ad k_115 s_116 (rec_l60_70 (y3_l60_70 + 1) h_114 (n_j159_109 + k_115)))))
def f_X12_init_j118_90 (Ev : rb_E) (o : Nat) (y3_l60_70 : Int32) (rec_l60_70 : Int32 → AH → Nat → Option (Unit × AH × Nat × Nat)) (v_84 : Int32) (v_86 : Nat) (w0_j118_90 : Nat) (h_j118_90 : AH) (n_j118_90 : Nat) : Option (Unit × AH × Nat × Nat) := ((hp_k Ev h_j118_90 v_86 13).bind fun u_91 => ((f_J1_append_3 Ev h_j118_90 n_j118_90 v_86 w0_j118_90).bind fun (r_94, h_95, k_96, s_97) => (ad k_96 s_97 ((hp_p Ev h_95 o 10 1).bind fun v_103 => ((f_X1_isOperator Ev h_95 v_84).bind fun v_106 => (if v_106 = 0 then (f_X12_init_j159_109 Ev y3_l60_70 rec_l60_70 v_103 (eS Ev RX12 64) h_95 (n_j118_90 + k_96)) else (ad 1 4 (rb_lt (va_up h_95 (n_j118_90 + k_96) (some (.inr (13, [.null, .int 0, .int 0, .int 0])))) fun h_126 => ((f_J1_init Ev h_126 ((n_j118_90 + k_96) + 1) (n_j118_90 + k_96)).bind fun (r_128, h_129, k_130, s_131) => (ad k_130 s_131 ((hp_k Ev h_129 (n_j118_90 + k_96) 13).bind fun u_137 => ((f_J1_append_3 Ev h_129 (((n_j118_90 + k_96) + 1) + k_130) (n_j118_90 + k_96) (eS Ev RX12 64)).bind fun (r_140, h_141, k_142, s_143) => (ad k_142 s_143 ((hp_k Ev h_141 r_140 13).bind fun u_149 => ((f_J1_append_7 Ev h_141 ((((n_j118_90 + k_96) + 1) + k_130) + k_142) r_140 v_84).bind fun (r_152, h_153, k_154, s_155) => (ad k_154 s_155 ((hp_k Ev h_153 r_152 13).bind fun u_161 => ((f_J1_toString Ev h_153 (((((n_j118_90 + k_96) + 1) + k_130) + k_142) + k_154) r_152).bind fun (r_164, h_165, k_166, s_167) => (ad k_166 s_167 (f_X12_init_j159_109 Ev y3_l60_70 rec_l60_70 v_103 r_164 h_165 ((((((n_j118_90 + k_96) + 1) + k_130) + k_142) + k_154) + k_166)))))))))))))))))))))
def f_X12_init_l60_70 (Ev : rb_E) (o : Nat) (x1 : Nat) : Nat → Int32 → AH → Nat → Option (Unit × AH × Nat × Nat)
  | 0, _, _, _ => none
  | k_l60_70 + 1, y3_l60_70, h_l60_70, n_l60_70 => ((hp_k Ev h_l60_70 x1 0).bind fun u_71 => ((f_X1_length Ev h_l60_70 x1).bind fun v_74 => (if v_74 ≤ y3_l60_70 then (some ((), h_l60_70, 0, 0)) else ((hp_p Ev h_l60_70 x1 0 0).bind fun v_77 => ((hp_p Ev h_l60_70 v_77 1 0).bind fun v_79 => ((hp_k Ev h_l60_70 v_79 13).bind fun u_81 => ((f_J1_charAt Ev h_l60_70 v_79 y3_l60_70).bind fun v_84 => ((hp_p Ev h_l60_70 o 10 0).bind fun v_86 => (if (f_X1_isOperand v_84) = 0 then (f_X12_init_j118_90 Ev o y3_l60_70 (f_X12_init_l60_70 Ev o x1 k_l60_70) v_84 v_86 (eS Ev RX12 64) h_l60_70 n_l60_70) else (ad 1 4 (rb_lt (va_up h_l60_70 n_l60_70 (some (.inr (13, [.null, .int 0, .int 0, .int 0])))) fun h_177 => ((f_J1_init Ev h_177 (n_l60_70 + 1) n_l60_70).bind fun (r_179, h_180, k_181, s_182) => (ad k_181 s_182 ((hp_k Ev h_180 n_l60_70 13).bind fun u_188 => ((f_J1_append_3 Ev h_180 ((n_l60_70 + 1) + k_181) n_l60_70 (eS Ev RX12 64)).bind fun (r_191, h_192, k_193, s_194) => (ad k_193 s_194 ((hp_k Ev h_192 r_191 13).bind fun u_200 => ((f_J1_append_7 Ev h_192 (((n_l60_70 + 1) + k_181) + k_193) r_191 v_84).bind fun (r_203, h_204, k_205, s_206) => (ad k_205 s_206 ((hp_k Ev h_204 r_203 13).bind fun u_212 => ((f_J1_toString Ev h_204 ((((n_l60_70 + 1) + k_181) + k_193) + k_205) r_203).bind fun (r_215, h_216, k_217, s_218) => (ad k_217 s_218 (f_X12_init_j118_90 Ev o y3_l60_70 (f_X12_init_l60_70 Ev o x1 k_l60_70) v_84 v_86 r_215 h_216 (((((n_l60_70 + 1) + k_181) + k_193) + k_205) + k_217))))))))))))))))))))))))
def f_X12_init (Ev : rb_E) (h : AH) (n : Nat) (o : Nat) (x1 : Nat) : Option (Unit × AH × Nat × Nat) := ((hp_put h o 10 6 (.ref x1)).bind fun h_1 => (ad 1 4 (rb_lt (va_up h_1 n (some (.inr (13, [.null, .int 0, .int 0, .int 0])))) fun h_7 => ((f_J1_init Ev h_7 (n + 1) n).bind fun (r_9, h_10, k_11, s_12) => (ad k_11 s_12 ((hp_put h_10 o 10 0 (.ref n)).bind fun h_18 => (ad 1 4 (rb_lt (va_up h_18 ((n + 1) + k_11) (some (.inr (13, [.null, .int 0, .int 0, .int 0])))) fun h_24 => ((f_J1_init Ev h_24 (((n + 1) + k_11) + 1) ((n + 1) + k_11)).bind fun (r_26, h_27, k_28, s_29) => (ad k_28 s_29 ((hp_put h_27 o 10 1 (.ref ((n + 1) + k_11))).bind fun h_35 => (if (72 : Int32) < 0 ∨ 65536 < (72 : Int32).toNatClampNeg then none else (ad 1 (72 : Int32).toNatClampNeg (rb_lt (va_up h_35 ((((n + 1) + k_11) + 1) + k_28) (some (.inl (eA Ev 0, (72 : Int32).toNatClampNeg, .inl (fun _ => 0))))) fun h_42 => ((hp_put h_42 o 10 2 (.ref ((((n + 1) + k_11) + 1) + k_28))).bind fun h_43 => (if (72 : Int32) < 0 ∨ 65536 < (72 : Int32).toNatClampNeg then none else (ad 1 (72 : Int32).toNatClampNeg (rb_lt (va_up h_43 (((((n + 1) + k_11) + 1) + k_28) + 1) (some (.inl (eA Ev 7, (72 : Int32).toNatClampNeg, aQ (fun _ => none))))) fun h_50 => ((hp_put h_50 o 10 3 (.ref (((((n + 1) + k_11) + 1) + k_28) + 1))).bind fun h_51 => ((hp_put h_51 o 10 4 (.int (-1))).bind fun h_53 => ((hp_k Ev h_53 x1 0).bind fun u_55 => ((f_X1_tree Ev h_53 ((((((n + 1) + k_11) + 1) + k_28) + 1) + 1) x1).bind fun (r_58, h_59, k_60, s_61) => (ad k_60 s_61 (match r_58 with | .inl v_67 => (f_X12_init_l60_70 Ev o x1 4096 0 h_59 (((((((n + 1) + k_11) + 1) + k_28) + 1) + 1) + k_60)) | .inr (E_68, q_69) => (if E_68 = "java/lang/UnsupportedOperationException" then none else none)))))))))))))))))))))))))
abbrev rm_X12_init (k s : Nat) : Room := { frames := 75, cells := k, slots := s, locals := 2866 }
set_option maxHeartbeats 4000000 in
theorem ct_X12_init (Ev : rb_E) (h : AH) (n : Nat) (o : Nat) (x1 : Nat) (r : Unit) (h' : AH) (k s : Nat) (hf : f_X12_init Ev h n o x1 = some (r, h', k, s)) : Ct Ev yX12_init (ws_ yX12_init cX12_init 5 none) (rm_X12_init k s) [.ref o, .ref x1] h n (pX (.inl (none)) h' (n + k)) := by
  rw [f_X12_init] at hf
  refine Ct.of rfl (Nat.le_of_ble_eq_true rfl) fun X C hnm => ?_
  have C : Cx Ev X RX12 cX12_init 5 none [] := C
  show Wa Ev X (rm_X12_init k s) 5 h n 0 0 (rb_MQ Ev X (rm_X12_init k s) (pX (.inl (none)) h' (n + k))) 0 [(0, .ref o), (1, .ref x1)] []
  have hb : Bd (n + k) k s n 0 0 k s := ⟨rfl, Nat.le_of_eq (Nat.zero_add _), Nat.le_of_eq (Nat.zero_add _)⟩
  refine rb_aload_n C dX12_init_0 rfl 0 rfl ?_
  refine rb_aload_n C dX12_init_1 rfl 1 rfl ?_
  obtain ⟨h_1, e_2, hf⟩ := rb_bd hf
  refine rb_hputF C ff_X12_3_X12 hnm e_2 rfl rfl dX12_init_2 ?_
  refine rb_aload_n C dX12_init_5 rfl 0 rfl ?_
  refine rb_objInit C q1771 q123 q124 dX12_init_6 (Nat.le_of_ble_eq_true rfl) (Nat.le_of_ble_eq_true rfl) ?_
  refine rb_aload_n C dX12_init_9 rfl 0 rfl ?_
  obtain ⟨a_5, b_6, hf, ea_3, eb_4⟩ := ad_at hf
  refine rb_hnew C ck_J1 q1772 q132 q72 [.null, .int 0, .int 0, .int 0] rfl (Bd.c1 hb ea_3) (Bd.s1 hb eb_4) dX12_init_10 ?_
  have hb := Bd.ade hb ea_3 eb_4
  obtain ⟨h_7, e_h_7⟩ : ∃ z, z = (va_up h_1 n (some (.inr (13, [.null, .int 0, .int 0, .int 0])))) := ⟨_, rfl⟩
  rw [← e_h_7]
  have hf := rb_let hf e_h_7
  refine rb_dup C dX12_init_13 rfl ?_
  obtain ⟨⟨r_9, h_10, k_11, s_12⟩, e_13, hf⟩ := rb_bd hf
  obtain ⟨a_16, b_17, hf, ea_14, eb_15⟩ := ad_at hf
  refine rb_callI (As := []) (rest := [.ref n, .ref o]) C mi_J1_init si_X12_17 (ct_J1_init Ev h_7 (n + 1) n r_9 _ _ _ e_13) rfl rfl (Nat.le_of_ble_eq_true rfl) ⟨Nat.le_of_ble_eq_true rfl, Nat.le_of_ble_eq_true rfl, Bd.c1 hb ea_14, Bd.s1 hb eb_15⟩ dX12_init_14 rb_xX (rb_kX (rb_w (kc := ((0 + 1) + k_11)) (ks := ((0 + 4) + s_12)) rfl rfl ?_))
  have hb := Bd.ade hb ea_14 eb_15
  obtain ⟨h_18, e_19, hf⟩ := rb_bd hf
  refine rb_hputF C ff_X12_18_X12 hnm e_19 rfl rfl dX12_init_17 ?_
  refine rb_aload_n C dX12_init_20 rfl 0 rfl ?_
  obtain ⟨a_22, b_23, hf, ea_20, eb_21⟩ := ad_at hf
  refine rb_hnew C ck_J1 q1772 q132 q72 [.null, .int 0, .int 0, .int 0] rfl (Bd.c1 hb ea_20) (Bd.s1 hb eb_21) dX12_init_21 ?_
  have hb := Bd.ade hb ea_20 eb_21
  obtain ⟨h_24, e_h_24⟩ : ∃ z, z = (va_up h_18 ((n + 1) + k_11) (some (.inr (13, [.null, .int 0, .int 0, .int 0])))) := ⟨_, rfl⟩
  rw [← e_h_24]
  have hf := rb_let hf e_h_24
  refine rb_dup C dX12_init_24 rfl ?_
  obtain ⟨⟨r_26, h_27, k_28, s_29⟩, e_30, hf⟩ := rb_bd hf
  obtain ⟨a_33, b_34, hf, ea_31, eb_32⟩ := ad_at hf
  refine rb_callI (As := []) (rest := [.ref ((n + 1) + k_11), .ref o]) C mi_J1_init si_X12_17 (ct_J1_init Ev h_24 (((n + 1) + k_11) + 1) ((n + 1) + k_11) r_26 _ _ _ e_30) rfl rfl (Nat.le_of_ble_eq_true rfl) ⟨Nat.le_of_ble_eq_true rfl, Nat.le_of_ble_eq_true rfl, Bd.c1 hb ea_31, Bd.s1 hb eb_32⟩ dX12_init_25 rb_xX (rb_kX (rb_w (kc := ((((0 + 1) + k_11) + 1) + k_28)) (ks := ((((0 + 4) + s_12) + 4) + s_29)) rfl rfl ?_))
  have hb := Bd.ade hb ea_31 eb_32
  obtain ⟨h_35, e_36, hf⟩ := rb_bd hf
  refine rb_hputF C ff_X12_22_X12 hnm e_36 rfl rfl dX12_init_28 ?_
  refine rb_aload_n C dX12_init_31 rfl 0 rfl ?_
  refine rb_bipush (v := 72) C dX12_init_32 rfl ?_
  by_cases c_g_37 : (72 : Int32) < 0 ∨ 65536 < (72 : Int32).toNatClampNeg
  · exact absurd ((if_pos c_g_37).symm.trans hf) (fun z => by cases z)
  have hf := (if_neg c_g_37).symm.trans hf
  obtain ⟨a_40, b_41, hf, ea_38, eb_39⟩ := ad_at hf
  refine rb_hnewa (atype := .int) C 0 rfl rfl rfl q202 c_g_37 ((72 : Int32).toNatClampNeg, .inl (fun _ => 0)) (fun _ => rfl) (Bd.c1 hb ea_38) (Bd.s1 hb eb_39) dX12_init_34 ?_
  have hb := Bd.ade hb ea_38 eb_39
  obtain ⟨h_42, e_h_42⟩ : ∃ z, z = (va_up h_35 ((((n + 1) + k_11) + 1) + k_28) (some (.inl (eA Ev 0, (72 : Int32).toNatClampNeg, .inl (fun _ => 0))))) := ⟨_, rfl⟩
  rw [← e_h_42]
  have hf := rb_let hf e_h_42
  obtain ⟨h_43, e_44, hf⟩ := rb_bd hf
  refine rb_hputF C ff_X12_25_X12 hnm e_44 rfl rfl dX12_init_36 ?_
  refine rb_aload_n C dX12_init_39 rfl 0 rfl ?_
  refine rb_bipush (v := 72) C dX12_init_40 rfl ?_
  by_cases c_g_45 : (72 : Int32) < 0 ∨ 65536 < (72 : Int32).toNatClampNeg
  · exact absurd ((if_pos c_g_45).symm.trans hf) (fun z => by cases z)
  have hf := (if_neg c_g_45).symm.trans hf
  obtain ⟨a_48, b_49, hf, ea_46, eb_47⟩ := ad_at hf
  refine rb_hnewq C 7 rfl q1774 q165 c_g_45 (Bd.c1 hb ea_46) (Bd.s1 hb eb_47) dX12_init_42 ?_
  have hb := Bd.ade hb ea_46 eb_47
  obtain ⟨h_50, e_h_50⟩ : ∃ z, z = (va_up h_43 (((((n + 1) + k_11) + 1) + k_28) + 1) (some (.inl (eA Ev 7, (72 : Int32).toNatClampNeg, aQ (fun _ => none))))) := ⟨_, rfl⟩
  rw [← e_h_50]
  have hf := rb_let hf e_h_50
  obtain ⟨h_51, e_52, hf⟩ := rb_bd hf
  refine rb_hputF C ff_X12_31_X12 hnm e_52 rfl rfl dX12_init_45 ?_
  refine rb_aload_n C dX12_init_48 rfl 0 rfl ?_
  refine rb_iconst (v := (-1)) C dX12_init_49 rfl ?_
  obtain ⟨h_53, e_54, hf⟩ := rb_bd hf
  refine rb_hput C fw_X12_35_X12 e_54 rfl rfl dX12_init_50 ?_
  refine rb_aload_n C dX12_init_53 rfl 1 rfl ?_
  obtain ⟨u_55, e_56, hf⟩ := rb_bd hf
  obtain ⟨⟨r_58, h_59, k_60, s_61⟩, e_62, hf⟩ := rb_bd hf
  obtain ⟨a_65, b_66, hf, ea_63, eb_64⟩ := ad_at hf
  rcases r_58 with v_67 | ⟨E_68, q_69⟩
  · dsimp only at hf
    refine rb_callVNX (As := []) (rest := []) C mi_X1_tree sv_X12_39 (hp_k_isC C.pf e_56 ck_X1) (ct_X1_tree Ev h_53 ((((((n + 1) + k_11) + 1) + k_28) + 1) + 1) x1 (.inl v_67) _ _ _ e_62) rfl rfl (Nat.le_of_ble_eq_true rfl) ⟨Nat.le_of_ble_eq_true rfl, Nat.le_of_ble_eq_true rfl, Bd.c1 hb ea_63, Bd.s1 hb eb_64⟩ dX12_init_54 rb_xX (rb_kX (r := some (.ref v_67)) (rb_w (kc := (((((((0 + 1) + k_11) + 1) + k_28) + 1) + 1) + k_60)) (ks := (((((((0 + 4) + s_12) + 4) + s_29) + (72 : Int32).toNatClampNeg) + (72 : Int32).toNatClampNeg) + s_61)) rfl rfl ?_))
    have hb := Bd.ade hb ea_63 eb_64
    refine rb_astore_n (lv' := [(2, .ref v_67), (0, .ref o), (1, .ref x1)]) C dX12_init_57 rfl (by decide) rfl ?_
    refine rb_iconst (v := 0) C dX12_init_58 rfl ?_
    refine rb_istore_n (lv' := [(3, .int 0), (2, .ref v_67), (0, .ref o), (1, .ref x1)]) C dX12_init_59 rfl (by decide) rfl ?_
    have L_l60_70 : ∀ (k_l60_70 : Nat) (y3_l60_70 : Int32) (h_l60_70 : AH) (n_l60_70 kc_l60_70 ks_l60_70 a_ b_ : Nat), f_X12_init_l60_70 Ev o x1 k_l60_70 y3_l60_70 h_l60_70 n_l60_70 = some (r, h', a_, b_) → Bd (n + k) k s n_l60_70 kc_l60_70 ks_l60_70 a_ b_ → Wa Ev X (rm_X12_init k s) 5 h_l60_70 n_l60_70 kc_l60_70 ks_l60_70 (rb_MQ Ev X (rm_X12_init k s) (pX (.inl (none)) h' (n + k))) 60 [(0, .ref o), (1, .ref x1), (2, .ref v_67), (3, .int y3_l60_70)] [] := by
      intro k_l60_70
      induction k_l60_70 with
      | zero => intro y3_l60_70 h_l60_70 n_l60_70 kc_l60_70 ks_l60_70 a_ b_ hf hb; cases hf
      | succ k_l60_70 ih_l60_70 =>
        intro y3_l60_70 h_l60_70 n_l60_70 kc_l60_70 ks_l60_70 a_ b_ hf hb
        rw [f_X12_init_l60_70] at hf
        refine rb_iload_n C dX12_init_60 rfl 3 rfl ?_
        refine rb_aload_n C dX12_init_61 rfl 1 rfl ?_
        obtain ⟨u_71, e_72, hf⟩ := rb_bd hf
        obtain ⟨v_74, e_75, hf⟩ := rb_bd hf
        refine rb_callV (As := []) (rest := [.int y3_l60_70]) C mi_X1_length sv_X12_43 (hp_k_isC C.pf e_72 ck_X1) (ct_X1_length Ev h_l60_70 n_l60_70 x1 _ e_75) rfl rfl (Nat.le_of_ble_eq_true rfl) ⟨Nat.le_of_ble_eq_true rfl, Nat.le_of_ble_eq_true rfl, hb.c0, hb.s0⟩ dX12_init_62 rb_xXi (rb_kXi fun hn_73 => (rb_w (kc := kc_l60_70) (ks := ks_l60_70) rfl rfl ?_))
        refine rb_icmp_ge (tgt := 169) C dX12_init_65 (by decide) (fun c_76 => ?_) (fun c_76 => ?_)
        · have hf := (if_pos c_76).symm.trans hf
          cases hf
          exact rb_vret C rfl hb.e.2.1 hb.e.2.2 dX12_init_169 ⟨rfl, rfl, hb.e.1⟩
        · have hf := (if_neg c_76).symm.trans hf
          refine rb_aload_n C dX12_init_68 rfl 1 rfl ?_
          obtain ⟨v_77, e_78, hf⟩ := rb_bd hf
          refine rb_hP C fl_X12_47_X1 e_78 dX12_init_69 ?_
          obtain ⟨v_79, e_80, hf⟩ := rb_bd hf
          refine rb_hP C fl_X12_51_X2 e_80 dX12_init_72 ?_
          refine rb_iload_n C dX12_init_75 rfl 3 rfl ?_
          obtain ⟨u_81, e_82, hf⟩ := rb_bd hf
          obtain ⟨v_84, e_85, hf⟩ := rb_bd hf
          refine rb_callV (As := [.int y3_l60_70]) (rest := []) C mi_J1_charAt sv_X12_56 (hp_k_isC C.pf e_82 ck_J1) (ct_J1_charAt Ev h_l60_70 n_l60_70 v_79 y3_l60_70 _ e_85) rfl rfl (Nat.le_of_ble_eq_true rfl) ⟨Nat.le_of_ble_eq_true rfl, Nat.le_of_ble_eq_true rfl, hb.c0, hb.s0⟩ dX12_init_76 rb_xXi (rb_kXi fun hn_83 => (rb_w (kc := kc_l60_70) (ks := ks_l60_70) rfl rfl ?_))
          refine rb_istore (lv' := [(4, .int v_84), (0, .ref o), (1, .ref x1), (2, .ref v_67), (3, .int y3_l60_70)]) C dX12_init_79 (by decide) rfl ?_
          refine rb_aload_n C dX12_init_81 rfl 1 rfl ?_
          obtain ⟨v_86, e_87, hf⟩ := rb_bd hf
          refine rb_hP C fl_X12_18_X12 e_87 dX12_init_82 ?_
          refine rb_iload C dX12_init_85 0 rfl ?_
          refine rb_callSN (As := [.int v_84]) (rest := [.ref v_86]) C mi_X1_isOperand ss_X12_60 (ct_X1_isOperand Ev h_l60_70 n_l60_70 v_84 _ rfl) rfl rfl (Nat.le_of_ble_eq_true rfl) ⟨Nat.le_of_ble_eq_true rfl, Nat.le_of_ble_eq_true rfl, hb.c0, hb.s0⟩ dX12_init_87 rb_xXi (rb_kXi fun hn_88 => (rb_w (kc := kc_l60_70) (ks := ks_l60_70) rfl rfl ?_))
          have J_j118_90 : ∀ (w0_j118_90 : Nat) (h_j118_90 : AH) (n_j118_90 : Nat) (kc_j118_90 ks_j118_90 a_ b_ : Nat), f_X12_init_j118_90 Ev o y3_l60_70 (f_X12_init_l60_70 Ev o x1 k_l60_70) v_84 v_86 w0_j118_90 h_j118_90 n_j118_90 = some (r, h', a_, b_) → Bd (n + k) k s n_j118_90 kc_j118_90 ks_j118_90 a_ b_ → Wa Ev X (rm_X12_init k s) 5 h_j118_90 n_j118_90 kc_j118_90 ks_j118_90 (rb_MQ Ev X (rm_X12_init k s) (pX (.inl (none)) h' (n + k))) 118 [(0, .ref o), (1, .ref x1), (2, .ref v_67), (3, .int y3_l60_70), (4, .int v_84)] [.ref w0_j118_90, .ref v_86] := by
            intro w0_j118_90 h_j118_90 n_j118_90 kc_j118_90 ks_j118_90 a_ b_ hf hb
            rw [f_X12_init_j118_90] at hf
            obtain ⟨u_91, e_92, hf⟩ := rb_bd hf
            obtain ⟨⟨r_94, h_95, k_96, s_97⟩, e_98, hf⟩ := rb_bd hf
            obtain ⟨a_101, b_102, hf, ea_99, eb_100⟩ := ad_at hf
            refine rb_callV (As := [.ref w0_j118_90]) (rest := []) C mi_J1_append_3 sv_X12_66 (hp_k_isC C.pf e_92 ck_J1) (ct_J1_append_3 Ev h_j118_90 n_j118_90 v_86 w0_j118_90 r_94 _ _ _ e_98) rfl rfl (Nat.le_of_ble_eq_true rfl) ⟨Nat.le_of_ble_eq_true rfl, Nat.le_of_ble_eq_true rfl, Bd.c1 hb ea_99, Bd.s1 hb eb_100⟩ dX12_init_118 rb_xX (rb_kX (rb_w (kc := (kc_j118_90 + k_96)) (ks := (ks_j118_90 + s_97)) rfl rfl ?_))
            have hb := Bd.ade hb ea_99 eb_100
            refine rb_pop C dX12_init_121 rfl ?_
            refine rb_aload_n C dX12_init_122 rfl 0 rfl ?_
            obtain ⟨v_103, e_104, hf⟩ := rb_bd hf
            refine rb_hP C fl_X12_22_X12 e_104 dX12_init_123 ?_
            refine rb_iload C dX12_init_126 4 rfl ?_
            obtain ⟨v_106, e_107, hf⟩ := rb_bd hf
            refine rb_callSN (As := [.int v_84]) (rest := [.ref v_103]) C mi_X1_isOperator ss_X12_77 (ct_X1_isOperator Ev h_95 (n_j118_90 + k_96) v_84 _ e_107) rfl rfl (Nat.le_of_ble_eq_true rfl) ⟨Nat.le_of_ble_eq_true rfl, Nat.le_of_ble_eq_true rfl, hb.c0, hb.s0⟩ dX12_init_128 rb_xXi (rb_kXi fun hn_105 => (rb_w (kc := (kc_j118_90 + k_96)) (ks := (ks_j118_90 + s_97)) rfl rfl ?_))
            have J_j159_109 : ∀ (w0_j159_109 : Nat) (h_j159_109 : AH) (n_j159_109 : Nat) (kc_j159_109 ks_j159_109 a_ b_ : Nat), f_X12_init_j159_109 Ev y3_l60_70 (f_X12_init_l60_70 Ev o x1 k_l60_70) v_103 w0_j159_109 h_j159_109 n_j159_109 = some (r, h', a_, b_) → Bd (n + k) k s n_j159_109 kc_j159_109 ks_j159_109 a_ b_ → Wa Ev X (rm_X12_init k s) 5 h_j159_109 n_j159_109 kc_j159_109 ks_j159_109 (rb_MQ Ev X (rm_X12_init k s) (pX (.inl (none)) h' (n + k))) 159 [(0, .ref o), (1, .ref x1), (2, .ref v_67), (3, .int y3_l60_70), (4, .int v_84)] [.ref w0_j159_109, .ref v_103] := by
              intro w0_j159_109 h_j159_109 n_j159_109 kc_j159_109 ks_j159_109 a_ b_ hf hb
              rw [f_X12_init_j159_109] at hf
              obtain ⟨u_110, e_111, hf⟩ := rb_bd hf
              obtain ⟨⟨r_113, h_114, k_115, s_116⟩, e_117, hf⟩ := rb_bd hf
              obtain ⟨a_120, b_121, hf, ea_118, eb_119⟩ := ad_at hf
              refine rb_callV (As := [.ref w0_j159_109]) (rest := []) C mi_J1_append_3 sv_X12_66 (hp_k_isC C.pf e_111 ck_J1) (ct_J1_append_3 Ev h_j159_109 n_j159_109 v_103 w0_j159_109 r_113 _ _ _ e_117) rfl rfl (Nat.le_of_ble_eq_true rfl) ⟨Nat.le_of_ble_eq_true rfl, Nat.le_of_ble_eq_true rfl, Bd.c1 hb ea_118, Bd.s1 hb eb_119⟩ dX12_init_159 rb_xX (rb_kX (rb_w (kc := (kc_j159_109 + k_115)) (ks := (ks_j159_109 + s_116)) rfl rfl ?_))
              have hb := Bd.ade hb ea_118 eb_119
              refine rb_pop C dX12_init_162 rfl ?_
              refine rb_iinc (v := (y3_l60_70 + 1)) (lv' := [(3, .int (y3_l60_70 + 1)), (0, .ref o), (1, .ref x1), (2, .ref v_67), (4, .int v_84)]) C dX12_init_163 (k := 3) rfl rfl (by decide) rfl ?_
              refine rb_goto (tgt := 60) C dX12_init_166 (by decide) ?_
              refine rb_sub [1, 2, 3, 0] rfl ?_
              exact ih_l60_70 (y3_l60_70 + 1) h_114 (n_j159_109 + k_115) _ _ _ _ hf hb
            refine rb_if_eq (tgt := 157) C dX12_init_131 (by decide) (fun c_108 => ?_) (fun c_108 => ?_)
            · have hf := (if_pos c_108).symm.trans hf
              refine rb_ldcS C q1779 dX12_init_157 ?_
              exact J_j159_109 (eS Ev RX12 64) h_95 (n_j118_90 + k_96)  _ _ _ _ hf hb
            · have hf := (if_neg c_108).symm.trans hf
              obtain ⟨a_124, b_125, hf, ea_122, eb_123⟩ := ad_at hf
              refine rb_hnew C ck_J1 q1772 q132 q72 [.null, .int 0, .int 0, .int 0] rfl (Bd.c1 hb ea_122) (Bd.s1 hb eb_123) dX12_init_134 ?_
              have hb := Bd.ade hb ea_122 eb_123
              obtain ⟨h_126, e_h_126⟩ : ∃ z, z = (va_up h_95 (n_j118_90 + k_96) (some (.inr (13, [.null, .int 0, .int 0, .int 0])))) := ⟨_, rfl⟩
              rw [← e_h_126]
              have hf := rb_let hf e_h_126
              refine rb_dup C dX12_init_137 rfl ?_
              obtain ⟨⟨r_128, h_129, k_130, s_131⟩, e_132, hf⟩ := rb_bd hf
              obtain ⟨a_135, b_136, hf, ea_133, eb_134⟩ := ad_at hf
              refine rb_callI (As := []) (rest := [.ref (n_j118_90 + k_96), .ref v_103]) C mi_J1_init si_X12_17 (ct_J1_init Ev h_126 ((n_j118_90 + k_96) + 1) (n_j118_90 + k_96) r_128 _ _ _ e_132) rfl rfl (Nat.le_of_ble_eq_true rfl) ⟨Nat.le_of_ble_eq_true rfl, Nat.le_of_ble_eq_true rfl, Bd.c1 hb ea_133, Bd.s1 hb eb_134⟩ dX12_init_138 rb_xX (rb_kX (rb_w (kc := (((kc_j118_90 + k_96) + 1) + k_130)) (ks := (((ks_j118_90 + s_97) + 4) + s_131)) rfl rfl ?_))
              have hb := Bd.ade hb ea_133 eb_134
              refine rb_ldcS C q1779 dX12_init_141 ?_
              obtain ⟨u_137, e_138, hf⟩ := rb_bd hf
              obtain ⟨⟨r_140, h_141, k_142, s_143⟩, e_144, hf⟩ := rb_bd hf
              obtain ⟨a_147, b_148, hf, ea_145, eb_146⟩ := ad_at hf
              refine rb_callV (As := [.ref (eS Ev RX12 64)]) (rest := [.ref v_103]) C mi_J1_append_3 sv_X12_66 (hp_k_isC C.pf e_138 ck_J1) (ct_J1_append_3 Ev h_129 (((n_j118_90 + k_96) + 1) + k_130) (n_j118_90 + k_96) (eS Ev RX12 64) r_140 _ _ _ e_144) rfl rfl (Nat.le_of_ble_eq_true rfl) ⟨Nat.le_of_ble_eq_true rfl, Nat.le_of_ble_eq_true rfl, Bd.c1 hb ea_145, Bd.s1 hb eb_146⟩ dX12_init_143 rb_xX (rb_kX (rb_w (kc := ((((kc_j118_90 + k_96) + 1) + k_130) + k_142)) (ks := ((((ks_j118_90 + s_97) + 4) + s_131) + s_143)) rfl rfl ?_))
              have hb := Bd.ade hb ea_145 eb_146
              refine rb_iload C dX12_init_146 4 rfl ?_
              obtain ⟨u_149, e_150, hf⟩ := rb_bd hf
              obtain ⟨⟨r_152, h_153, k_154, s_155⟩, e_156, hf⟩ := rb_bd hf
              obtain ⟨a_159, b_160, hf, ea_157, eb_158⟩ := ad_at hf
              refine rb_callV (As := [.int v_84]) (rest := [.ref v_103]) C mi_J1_append_7 sv_X12_70 (hp_k_isC C.pf e_150 ck_J1) (ct_J1_append_7 Ev h_141 ((((n_j118_90 + k_96) + 1) + k_130) + k_142) r_140 v_84 r_152 _ _ _ e_156) rfl rfl (Nat.le_of_ble_eq_true rfl) ⟨Nat.le_of_ble_eq_true rfl, Nat.le_of_ble_eq_true rfl, Bd.c1 hb ea_157, Bd.s1 hb eb_158⟩ dX12_init_148 rb_xX (rb_kX (rb_w (kc := (((((kc_j118_90 + k_96) + 1) + k_130) + k_142) + k_154)) (ks := (((((ks_j118_90 + s_97) + 4) + s_131) + s_143) + s_155)) rfl rfl ?_))
              have hb := Bd.ade hb ea_157 eb_158
              obtain ⟨u_161, e_162, hf⟩ := rb_bd hf
              obtain ⟨⟨r_164, h_165, k_166, s_167⟩, e_168, hf⟩ := rb_bd hf
              obtain ⟨a_171, b_172, hf, ea_169, eb_170⟩ := ad_at hf
              refine rb_callV (As := []) (rest := [.ref v_103]) C mi_J1_toString sv_X12_73 (hp_k_isC C.pf e_162 ck_J1) (ct_J1_toString Ev h_153 (((((n_j118_90 + k_96) + 1) + k_130) + k_142) + k_154) r_152 r_164 _ _ _ e_168) rfl rfl (Nat.le_of_ble_eq_true rfl) ⟨Nat.le_of_ble_eq_true rfl, Nat.le_of_ble_eq_true rfl, Bd.c1 hb ea_169, Bd.s1 hb eb_170⟩ dX12_init_151 rb_xX (rb_kX (rb_w (kc := ((((((kc_j118_90 + k_96) + 1) + k_130) + k_142) + k_154) + k_166)) (ks := ((((((ks_j118_90 + s_97) + 4) + s_131) + s_143) + s_155) + s_167)) rfl rfl ?_))
              have hb := Bd.ade hb ea_169 eb_170
              refine rb_goto (tgt := 159) C dX12_init_154 (by decide) ?_
              exact J_j159_109 r_164 h_165 ((((((n_j118_90 + k_96) + 1) + k_130) + k_142) + k_154) + k_166)  _ _ _ _ hf hb
          refine rb_if_eq (tgt := 116) C dX12_init_90 (by decide) (fun c_89 => ?_) (fun c_89 => ?_)
          · have hf := (if_pos c_89).symm.trans hf
            refine rb_ldcS C q1779 dX12_init_116 ?_
            refine rb_sub [1, 2, 3, 4, 0] rfl ?_
            exact J_j118_90 (eS Ev RX12 64) h_l60_70 n_l60_70  _ _ _ _ hf hb
          · have hf := (if_neg c_89).symm.trans hf
            obtain ⟨a_175, b_176, hf, ea_173, eb_174⟩ := ad_at hf
            refine rb_hnew C ck_J1 q1772 q132 q72 [.null, .int 0, .int 0, .int 0] rfl (Bd.c1 hb ea_173) (Bd.s1 hb eb_174) dX12_init_93 ?_
            have hb := Bd.ade hb ea_173 eb_174
            obtain ⟨h_177, e_h_177⟩ : ∃ z, z = (va_up h_l60_70 n_l60_70 (some (.inr (13, [.null, .int 0, .int 0, .int 0])))) := ⟨_, rfl⟩
            rw [← e_h_177]
            have hf := rb_let hf e_h_177
            refine rb_dup C dX12_init_96 rfl ?_
            obtain ⟨⟨r_179, h_180, k_181, s_182⟩, e_183, hf⟩ := rb_bd hf
            obtain ⟨a_186, b_187, hf, ea_184, eb_185⟩ := ad_at hf
            refine rb_callI (As := []) (rest := [.ref n_l60_70, .ref v_86]) C mi_J1_init si_X12_17 (ct_J1_init Ev h_177 (n_l60_70 + 1) n_l60_70 r_179 _ _ _ e_183) rfl rfl (Nat.le_of_ble_eq_true rfl) ⟨Nat.le_of_ble_eq_true rfl, Nat.le_of_ble_eq_true rfl, Bd.c1 hb ea_184, Bd.s1 hb eb_185⟩ dX12_init_97 rb_xX (rb_kX (rb_w (kc := ((kc_l60_70 + 1) + k_181)) (ks := ((ks_l60_70 + 4) + s_182)) rfl rfl ?_))
            have hb := Bd.ade hb ea_184 eb_185
            refine rb_ldcS C q1779 dX12_init_100 ?_
            obtain ⟨u_188, e_189, hf⟩ := rb_bd hf
            obtain ⟨⟨r_191, h_192, k_193, s_194⟩, e_195, hf⟩ := rb_bd hf
            obtain ⟨a_198, b_199, hf, ea_196, eb_197⟩ := ad_at hf
            refine rb_callV (As := [.ref (eS Ev RX12 64)]) (rest := [.ref v_86]) C mi_J1_append_3 sv_X12_66 (hp_k_isC C.pf e_189 ck_J1) (ct_J1_append_3 Ev h_180 ((n_l60_70 + 1) + k_181) n_l60_70 (eS Ev RX12 64) r_191 _ _ _ e_195) rfl rfl (Nat.le_of_ble_eq_true rfl) ⟨Nat.le_of_ble_eq_true rfl, Nat.le_of_ble_eq_true rfl, Bd.c1 hb ea_196, Bd.s1 hb eb_197⟩ dX12_init_102 rb_xX (rb_kX (rb_w (kc := (((kc_l60_70 + 1) + k_181) + k_193)) (ks := (((ks_l60_70 + 4) + s_182) + s_194)) rfl rfl ?_))
            have hb := Bd.ade hb ea_196 eb_197
            refine rb_iload C dX12_init_105 0 rfl ?_
            obtain ⟨u_200, e_201, hf⟩ := rb_bd hf
            obtain ⟨⟨r_203, h_204, k_205, s_206⟩, e_207, hf⟩ := rb_bd hf
            obtain ⟨a_210, b_211, hf, ea_208, eb_209⟩ := ad_at hf
            refine rb_callV (As := [.int v_84]) (rest := [.ref v_86]) C mi_J1_append_7 sv_X12_70 (hp_k_isC C.pf e_201 ck_J1) (ct_J1_append_7 Ev h_192 (((n_l60_70 + 1) + k_181) + k_193) r_191 v_84 r_203 _ _ _ e_207) rfl rfl (Nat.le_of_ble_eq_true rfl) ⟨Nat.le_of_ble_eq_true rfl, Nat.le_of_ble_eq_true rfl, Bd.c1 hb ea_208, Bd.s1 hb eb_209⟩ dX12_init_107 rb_xX (rb_kX (rb_w (kc := ((((kc_l60_70 + 1) + k_181) + k_193) + k_205)) (ks := ((((ks_l60_70 + 4) + s_182) + s_194) + s_206)) rfl rfl ?_))
            have hb := Bd.ade hb ea_208 eb_209
            obtain ⟨u_212, e_213, hf⟩ := rb_bd hf
            obtain ⟨⟨r_215, h_216, k_217, s_218⟩, e_219, hf⟩ := rb_bd hf
            obtain ⟨a_222, b_223, hf, ea_220, eb_221⟩ := ad_at hf
            refine rb_callV (As := []) (rest := [.ref v_86]) C mi_J1_toString sv_X12_73 (hp_k_isC C.pf e_213 ck_J1) (ct_J1_toString Ev h_204 ((((n_l60_70 + 1) + k_181) + k_193) + k_205) r_203 r_215 _ _ _ e_219) rfl rfl (Nat.le_of_ble_eq_true rfl) ⟨Nat.le_of_ble_eq_true rfl, Nat.le_of_ble_eq_true rfl, Bd.c1 hb ea_220, Bd.s1 hb eb_221⟩ dX12_init_110 rb_xX (rb_kX (rb_w (kc := (((((kc_l60_70 + 1) + k_181) + k_193) + k_205) + k_217)) (ks := (((((ks_l60_70 + 4) + s_182) + s_194) + s_206) + s_218)) rfl rfl ?_))
            have hb := Bd.ade hb ea_220 eb_221
            refine rb_goto (tgt := 118) C dX12_init_113 (by decide) ?_
            refine rb_sub [1, 2, 3, 4, 0] rfl ?_
            exact J_j118_90 r_215 h_216 (((((n_l60_70 + 1) + k_181) + k_193) + k_205) + k_217)  _ _ _ _ hf hb
    refine rb_sub [2, 3, 1, 0] rfl ?_
    exact L_l60_70 4096 0 h_59 (((((((n + 1) + k_11) + 1) + k_28) + 1) + 1) + k_60) _ _ _ _ hf hb
  · dsimp only at hf
    by_cases c_224 : E_68 = "java/lang/UnsupportedOperationException"
    · have hf := (if_pos c_224).symm.trans hf
      subst c_224
      refine rb_callVNX (As := []) (rest := []) C mi_X1_tree sv_X12_39 (hp_k_isC C.pf e_56 ck_X1) (ct_X1_tree Ev h_53 ((((((n + 1) + k_11) + 1) + k_28) + 1) + 1) x1 (.inr ("java/lang/UnsupportedOperationException", q_69)) _ _ _ e_62) rfl rfl (Nat.le_of_ble_eq_true rfl) ⟨Nat.le_of_ble_eq_true rfl, Nat.le_of_ble_eq_true rfl, Bd.c1 hb ea_63, Bd.s1 hb eb_64⟩ dX12_init_54 (rb_xY (E := "java/lang/UnsupportedOperationException") (rb_wX (kc := (((((((0 + 1) + k_11) + 1) + k_28) + 1) + 1) + k_60)) (ks := (((((((0 + 4) + s_12) + 4) + s_29) + (72 : Int32).toNatClampNeg) + (72 : Int32).toNatClampNeg) + s_61)) rfl rfl ?_)) rb_kY
      have hb := Bd.ade hb ea_63 eb_64
      cases hf
    have hf := (if_neg c_224).symm.trans hf
    cases hf
def f_X12_bracketings_l24_27 (Ev : rb_E) (n : Nat) (y2_l11_9 : Int32) (rec_l11_9 : Int32 → AH → Nat → Option (Int64 × AH × Nat × Nat)) : Nat → Int32 → AH → Nat → Option (Int64 × AH × Nat × Nat)
  | 0, _, _, _ => none
  | k_l24_27 + 1, y3_l24_27, h_l24_27, n_l24_27 => (if y2_l11_9 ≤ y3_l24_27 then (rec_l11_9 (y2_l11_9 + 1) h_l24_27 n_l24_27) else ((hp_ll Ev h_l24_27 n y2_l11_9).bind fun v_29 => ((hp_ll Ev h_l24_27 n y3_l24_27).bind fun v_31 => ((hp_ll Ev h_l24_27 n (y2_l11_9 - y3_l24_27)).bind fun v_33 => ((hp_ls Ev h_l24_27 n y2_l11_9 (v_29 + (v_31 * v_33))).bind fun h_35 => ((f_X12_bracketings_l24_27 Ev n y2_l11_9 rec_l11_9 k_l24_27) (y3_l24_27 + 1) h_35 n_l24_27))))))
def f_X12_bracketings_l11_9 (Ev : rb_E) (o : Nat) (n : Nat) : Nat → Int32 → AH → Nat → Option (Int64 × AH × Nat × Nat)
  | 0, _, _, _ => none
  | k_l11_9 + 1, y2_l11_9, h_l11_9, n_l11_9 => ((hp_p Ev h_l11_9 o 10 0).bind fun v_10 => ((hp_k Ev h_l11_9 v_10 13).bind fun u_12 => ((f_J1_length Ev h_l11_9 v_10).bind fun v_15 => (if v_15 < y2_l11_9 then ((hp_p Ev h_l11_9 o 10 0).bind fun v_18 => ((hp_k Ev h_l11_9 v_18 13).bind fun u_20 => ((f_J1_length Ev h_l11_9 v_18).bind fun v_23 => ((hp_ll Ev h_l11_9 n v_23).bind fun v_25 => (some (v_25, h_l11_9, 0, 0)))))) else (f_X12_bracketings_l24_27 Ev n y2_l11_9 (f_X12_bracketings_l11_9 Ev o n k_l11_9) 4096 1 h_l11_9 n_l11_9)))))
def f_X12_bracketings (Ev : rb_E) (h : AH) (n : Nat) (o : Nat) : Option (Int64 × AH × Nat × Nat) := (if (9 : Int32) < 0 ∨ 65536 < (9 : Int32).toNatClampNeg then none else (ad 1 (9 : Int32).toNatClampNeg (rb_lt (va_up h n (some (.inl (eA Ev 4, (9 : Int32).toNatClampNeg, .inr (.inl (fun _ => 0)))))) fun h_6 => ((hp_ls Ev h_6 n 1 1).bind fun h_7 => (f_X12_bracketings_l11_9 Ev o n 4096 2 h_7 (n + 1))))))
abbrev rm_X12_bracketings (k s : Nat) : Room := { frames := 2, cells := k, slots := s, locals := 40 }
set_option maxHeartbeats 4000000 in
theorem ct_X12_bracketings (Ev : rb_E) (h : AH) (n : Nat) (o : Nat) (r : Int64) (h' : AH) (k s : Nat) (hf : f_X12_bracketings Ev h n o = some (r, h', k, s)) : Ct Ev yX12_bracketings (ws_ yX12_bracketings cX12_bracketings 4 (some .long)) (rm_X12_bracketings k s) [.ref o] h n (pX (.inl (some (.long r))) h' (n + k)) := by
  rw [f_X12_bracketings] at hf
  refine Ct.of rfl (Nat.le_of_ble_eq_true rfl) fun X C hnm => ?_
  have C : Cx Ev X RX12 cX12_bracketings 4 (some .long) [] := C
  show Wa Ev X (rm_X12_bracketings k s) 4 h n 0 0 (rb_MQ Ev X (rm_X12_bracketings k s) (pX (.inl (some (.long r))) h' (n + k))) 0 [(0, .ref o)] []
  have hb : Bd (n + k) k s n 0 0 k s := ⟨rfl, Nat.le_of_eq (Nat.zero_add _), Nat.le_of_eq (Nat.zero_add _)⟩
  refine rb_bipush (v := 9) C dX12_bracketings_0 rfl ?_
  by_cases c_g_1 : (9 : Int32) < 0 ∨ 65536 < (9 : Int32).toNatClampNeg
  · exact absurd ((if_pos c_g_1).symm.trans hf) (fun z => by cases z)
  have hf := (if_neg c_g_1).symm.trans hf
  obtain ⟨a_4, b_5, hf, ea_2, eb_3⟩ := ad_at hf
  refine rb_hnewa (atype := .long) C 4 rfl rfl rfl q1813 c_g_1 ((9 : Int32).toNatClampNeg, .inr (.inl (fun _ => 0))) (fun _ => rfl) (Bd.c1 hb ea_2) (Bd.s1 hb eb_3) dX12_bracketings_2 ?_
  have hb := Bd.ade hb ea_2 eb_3
  obtain ⟨h_6, e_h_6⟩ : ∃ z, z = (va_up h n (some (.inl (eA Ev 4, (9 : Int32).toNatClampNeg, .inr (.inl (fun _ => 0)))))) := ⟨_, rfl⟩
  rw [← e_h_6]
  have hf := rb_let hf e_h_6
  refine rb_astore_n (lv' := [(1, .ref n), (0, .ref o)]) C dX12_bracketings_4 rfl (by decide) rfl ?_
  refine rb_aload_n C dX12_bracketings_5 rfl 0 rfl ?_
  refine rb_iconst (v := 1) C dX12_bracketings_6 rfl ?_
  refine rb_lconst (v := 1) C dX12_bracketings_7 rfl ?_
  obtain ⟨h_7, e_8, hf⟩ := rb_bd hf
  refine rb_hls C e_8 dX12_bracketings_8 ?_
  refine rb_iconst (v := 2) C dX12_bracketings_9 rfl ?_
  refine rb_istore_n (lv' := [(2, .int 2), (1, .ref n), (0, .ref o)]) C dX12_bracketings_10 rfl (by decide) rfl ?_
  have L_l11_9 : ∀ (k_l11_9 : Nat) (y2_l11_9 : Int32) (h_l11_9 : AH) (n_l11_9 kc_l11_9 ks_l11_9 a_ b_ : Nat), f_X12_bracketings_l11_9 Ev o n k_l11_9 y2_l11_9 h_l11_9 n_l11_9 = some (r, h', a_, b_) → Bd (n + k) k s n_l11_9 kc_l11_9 ks_l11_9 a_ b_ → Wa Ev X (rm_X12_bracketings k s) 4 h_l11_9 n_l11_9 kc_l11_9 ks_l11_9 (rb_MQ Ev X (rm_X12_bracketings k s) (pX (.inl (some (.long r))) h' (n + k))) 11 [(0, .ref o), (1, .ref n), (2, .int y2_l11_9)] [] := by
    intro k_l11_9
    induction k_l11_9 with
    | zero => intro y2_l11_9 h_l11_9 n_l11_9 kc_l11_9 ks_l11_9 a_ b_ hf hb; cases hf
    | succ k_l11_9 ih_l11_9 =>
      intro y2_l11_9 h_l11_9 n_l11_9 kc_l11_9 ks_l11_9 a_ b_ hf hb
      rw [f_X12_bracketings_l11_9] at hf
      refine rb_iload_n C dX12_bracketings_11 rfl 2 rfl ?_
      refine rb_aload_n C dX12_bracketings_12 rfl 0 rfl ?_
      obtain ⟨v_10, e_11, hf⟩ := rb_bd hf
      refine rb_hP C fl_X12_18_X12 e_11 dX12_bracketings_13 ?_
      obtain ⟨u_12, e_13, hf⟩ := rb_bd hf
      obtain ⟨v_15, e_16, hf⟩ := rb_bd hf
      refine rb_callV (As := []) (rest := [.int y2_l11_9]) C mi_J1_length sv_X12_80 (hp_k_isC C.pf e_13 ck_J1) (ct_J1_length Ev h_l11_9 n_l11_9 v_10 _ e_16) rfl rfl (Nat.le_of_ble_eq_true rfl) ⟨Nat.le_of_ble_eq_true rfl, Nat.le_of_ble_eq_true rfl, hb.c0, hb.s0⟩ dX12_bracketings_16 rb_xXi (rb_kXi fun hn_14 => (rb_w (kc := kc_l11_9) (ks := ks_l11_9) rfl rfl ?_))
      refine rb_icmp_gt (tgt := 56) C dX12_bracketings_19 (by decide) (fun c_17 => ?_) (fun c_17 => ?_)
      · have hf := (if_pos c_17).symm.trans hf
        refine rb_aload_n C dX12_bracketings_56 rfl 1 rfl ?_
        refine rb_aload_n C dX12_bracketings_57 rfl 0 rfl ?_
        obtain ⟨v_18, e_19, hf⟩ := rb_bd hf
        refine rb_hP C fl_X12_18_X12 e_19 dX12_bracketings_58 ?_
        obtain ⟨u_20, e_21, hf⟩ := rb_bd hf
        obtain ⟨v_23, e_24, hf⟩ := rb_bd hf
        refine rb_callV (As := []) (rest := [.ref n]) C mi_J1_length sv_X12_80 (hp_k_isC C.pf e_21 ck_J1) (ct_J1_length Ev h_l11_9 n_l11_9 v_18 _ e_24) rfl rfl (Nat.le_of_ble_eq_true rfl) ⟨Nat.le_of_ble_eq_true rfl, Nat.le_of_ble_eq_true rfl, hb.c0, hb.s0⟩ dX12_bracketings_61 rb_xXi (rb_kXi fun hn_22 => (rb_w (kc := kc_l11_9) (ks := ks_l11_9) rfl rfl ?_))
        obtain ⟨v_25, e_26, hf⟩ := rb_bd hf
        refine rb_hll C e_26 dX12_bracketings_64 ?_
        cases hf
        exact rb_lret C rfl hb.e.2.1 hb.e.2.2 dX12_bracketings_65 ⟨rfl, rfl, hb.e.1⟩
      · have hf := (if_neg c_17).symm.trans hf
        refine rb_iconst (v := 1) C dX12_bracketings_22 rfl ?_
        refine rb_istore_n (lv' := [(3, .int 1), (0, .ref o), (1, .ref n), (2, .int y2_l11_9)]) C dX12_bracketings_23 rfl (by decide) rfl ?_
        have L_l24_27 : ∀ (k_l24_27 : Nat) (y3_l24_27 : Int32) (h_l24_27 : AH) (n_l24_27 kc_l24_27 ks_l24_27 a_ b_ : Nat), f_X12_bracketings_l24_27 Ev n y2_l11_9 (f_X12_bracketings_l11_9 Ev o n k_l11_9) k_l24_27 y3_l24_27 h_l24_27 n_l24_27 = some (r, h', a_, b_) → Bd (n + k) k s n_l24_27 kc_l24_27 ks_l24_27 a_ b_ → Wa Ev X (rm_X12_bracketings k s) 4 h_l24_27 n_l24_27 kc_l24_27 ks_l24_27 (rb_MQ Ev X (rm_X12_bracketings k s) (pX (.inl (some (.long r))) h' (n + k))) 24 [(0, .ref o), (1, .ref n), (2, .int y2_l11_9), (3, .int y3_l24_27)] [] := by
          intro k_l24_27
          induction k_l24_27 with
          | zero => intro y3_l24_27 h_l24_27 n_l24_27 kc_l24_27 ks_l24_27 a_ b_ hf hb; cases hf
          | succ k_l24_27 ih_l24_27 =>
            intro y3_l24_27 h_l24_27 n_l24_27 kc_l24_27 ks_l24_27 a_ b_ hf hb
            rw [f_X12_bracketings_l24_27] at hf
            refine rb_iload_n C dX12_bracketings_24 rfl 3 rfl ?_
            refine rb_iload_n C dX12_bracketings_25 rfl 2 rfl ?_
            refine rb_icmp_ge (tgt := 50) C dX12_bracketings_26 (by decide) (fun c_28 => ?_) (fun c_28 => ?_)
            · have hf := (if_pos c_28).symm.trans hf
              refine rb_iinc (v := (y2_l11_9 + 1)) (lv' := [(2, .int (y2_l11_9 + 1)), (0, .ref o), (1, .ref n), (3, .int y3_l24_27)]) C dX12_bracketings_50 (k := 2) rfl rfl (by decide) rfl ?_
              refine rb_goto (tgt := 11) C dX12_bracketings_53 (by decide) ?_
              refine rb_sub [1, 2, 0] rfl ?_
              exact ih_l11_9 (y2_l11_9 + 1) h_l24_27 n_l24_27 _ _ _ _ hf hb
            · have hf := (if_neg c_28).symm.trans hf
              refine rb_aload_n C dX12_bracketings_29 rfl 1 rfl ?_
              refine rb_iload_n C dX12_bracketings_30 rfl 2 rfl ?_
              refine rb_dup2_11 C dX12_bracketings_31 rfl rfl ?_
              obtain ⟨v_29, e_30, hf⟩ := rb_bd hf
              refine rb_hll C e_30 dX12_bracketings_32 ?_
              refine rb_aload_n C dX12_bracketings_33 rfl 1 rfl ?_
              refine rb_iload_n C dX12_bracketings_34 rfl 3 rfl ?_
              obtain ⟨v_31, e_32, hf⟩ := rb_bd hf
              refine rb_hll C e_32 dX12_bracketings_35 ?_
              refine rb_aload_n C dX12_bracketings_36 rfl 1 rfl ?_
              refine rb_iload_n C dX12_bracketings_37 rfl 2 rfl ?_
              refine rb_iload_n C dX12_bracketings_38 rfl 3 rfl ?_
              refine rb_isub C dX12_bracketings_39 ?_
              obtain ⟨v_33, e_34, hf⟩ := rb_bd hf
              refine rb_hll C e_34 dX12_bracketings_40 ?_
              refine rb_lmul C dX12_bracketings_41 ?_
              refine rb_ladd C dX12_bracketings_42 ?_
              obtain ⟨h_35, e_36, hf⟩ := rb_bd hf
              refine rb_hls C e_36 dX12_bracketings_43 ?_
              refine rb_iinc (v := (y3_l24_27 + 1)) (lv' := [(3, .int (y3_l24_27 + 1)), (0, .ref o), (1, .ref n), (2, .int y2_l11_9)]) C dX12_bracketings_44 (k := 3) rfl rfl (by decide) rfl ?_
              refine rb_goto (tgt := 24) C dX12_bracketings_47 (by decide) ?_
              refine rb_sub [1, 2, 3, 0] rfl ?_
              exact ih_l24_27 (y3_l24_27 + 1) h_35 n_l24_27 _ _ _ _ hf hb
        refine rb_sub [1, 2, 3, 0] rfl ?_
        exact L_l24_27 4096 1 h_l11_9 n_l11_9 _ _ _ _ hf hb
  refine rb_sub [2, 1, 0] rfl ?_
  exact L_l11_9 4096 2 h_7 (n + 1) _ _ _ _ hf hb
def f_X1_bracketings (Ev : rb_E) (h : AH) (n : Nat) (o : Nat) : Option (Int64 × AH × Nat × Nat) := (ad 1 7 (rb_lt (va_up h n (some (.inr (10, [.null, .null, .null, .null, .int 0, .long 0, .null])))) fun h_5 => ((f_X12_init Ev h_5 (n + 1) n o).bind fun (r_7, h_8, k_9, s_10) => (ad k_9 s_10 ((hp_k Ev h_8 n 10).bind fun u_16 => ((f_X12_bracketings Ev h_8 ((n + 1) + k_9) n).bind fun (r_19, h_20, k_21, s_22) => (ad k_21 s_22 (some (r_19, h_20, 0, 0)))))))))
abbrev rm_X1_bracketings (k s : Nat) : Room := { frames := 76, cells := k, slots := s, locals := 2890 }
set_option maxHeartbeats 4000000 in
theorem ct_X1_bracketings (Ev : rb_E) (h : AH) (n : Nat) (o : Nat) (r : Int64) (h' : AH) (k s : Nat) (hf : f_X1_bracketings Ev h n o = some (r, h', k, s)) : Ct Ev yX1_bracketings (ws_ yX1_bracketings cX1_bracketings 1 (some .long)) (rm_X1_bracketings k s) [.ref o] h n (pX (.inl (some (.long r))) h' (n + k)) := by
  rw [f_X1_bracketings] at hf
  refine Ct.of rfl (Nat.le_of_ble_eq_true rfl) fun X C hnm => ?_
  have C : Cx Ev X RX1 cX1_bracketings 1 (some .long) [] := C
  show Wa Ev X (rm_X1_bracketings k s) 1 h n 0 0 (rb_MQ Ev X (rm_X1_bracketings k s) (pX (.inl (some (.long r))) h' (n + k))) 0 [(0, .ref o)] []
  have hb : Bd (n + k) k s n 0 0 k s := ⟨rfl, Nat.le_of_eq (Nat.zero_add _), Nat.le_of_eq (Nat.zero_add _)⟩
  obtain ⟨a_3, b_4, hf, ea_1, eb_2⟩ := ad_at hf
  refine rb_hnew C ck_X12 q1766 q1767 q108 [.null, .null, .null, .null, .int 0, .long 0, .null] rfl (Bd.c1 hb ea_1) (Bd.s1 hb eb_2) dX1_bracketings_0 ?_
  have hb := Bd.ade hb ea_1 eb_2
  obtain ⟨h_5, e_h_5⟩ : ∃ z, z = (va_up h n (some (.inr (10, [.null, .null, .null, .null, .int 0, .long 0, .null])))) := ⟨_, rfl⟩
  rw [← e_h_5]
  have hf := rb_let hf e_h_5
  refine rb_dup C dX1_bracketings_3 rfl ?_
  refine rb_aload_n C dX1_bracketings_4 rfl 0 rfl ?_
  obtain ⟨⟨r_7, h_8, k_9, s_10⟩, e_11, hf⟩ := rb_bd hf
  obtain ⟨a_14, b_15, hf, ea_12, eb_13⟩ := ad_at hf
  refine rb_callI (As := [.ref o]) (rest := [.ref n]) C mi_X12_init si_X1_297 (ct_X12_init Ev h_5 (n + 1) n o r_7 _ _ _ e_11) rfl rfl (Nat.le_of_ble_eq_true rfl) ⟨Nat.le_of_ble_eq_true rfl, Nat.le_of_ble_eq_true rfl, Bd.c1 hb ea_12, Bd.s1 hb eb_13⟩ dX1_bracketings_5 rb_xX (rb_kX (rb_w (kc := ((0 + 1) + k_9)) (ks := ((0 + 7) + s_10)) rfl rfl ?_))
  have hb := Bd.ade hb ea_12 eb_13
  obtain ⟨u_16, e_17, hf⟩ := rb_bd hf
  obtain ⟨⟨r_19, h_20, k_21, s_22⟩, e_23, hf⟩ := rb_bd hf
  obtain ⟨a_26, b_27, hf, ea_24, eb_25⟩ := ad_at hf
  refine rb_callV (As := []) (rest := []) C mi_X12_bracketings sv_X1_300 (hp_k_isC C.pf e_17 ck_X12) (ct_X12_bracketings Ev h_8 ((n + 1) + k_9) n r_19 _ _ _ e_23) rfl rfl (Nat.le_of_ble_eq_true rfl) ⟨Nat.le_of_ble_eq_true rfl, Nat.le_of_ble_eq_true rfl, Bd.c1 hb ea_24, Bd.s1 hb eb_25⟩ dX1_bracketings_8 rb_xX (rb_kX (rb_w (kc := (((0 + 1) + k_9) + k_21)) (ks := (((0 + 7) + s_10) + s_22)) rfl rfl ?_))
  have hb := Bd.ade hb ea_24 eb_25
  cases hf
  exact rb_lret C rfl hb.e.2.1 hb.e.2.2 dX1_bracketings_11 ⟨rfl, rfl, hb.e.1⟩
def f_X12_make_j140_59 (Ev : rb_E) (x1 : Int32) (y7_l70_12 : Int32) (n_l70_12 : Nat) (rec_l70_12 : Int32 → AH → Nat → Option (Unit × AH × Nat × Nat)) (h_52 : AH) (v_54 : Nat) (v_56 : Nat) (w0_j140_59 : Int32) : Option (Unit × AH × Nat × Nat) := ((hp_ap Ev h_52 7 v_56 (((8 * x1) + y7_l70_12) + w0_j140_59)).bind fun v_60 => ((hp_en Ev v_60).bind fun u_63 => ((hp_as Ev h_52 7 v_54 (((8 * x1) + 8) + y7_l70_12) (some v_60)).bind fun h_62 => (rec_l70_12 (y7_l70_12 + 1) h_62 n_l70_12))))
def f_X12_make_j108_49 (Ev : rb_E) (o : Nat) (x1 : Int32) (y6_l58_10 : Int32) (y7_l70_12 : Int32) (h_l70_12 : AH) (n_l70_12 : Nat) (rec_l70_12 : Int32 → AH → Nat → Option (Unit × AH × Nat × Nat)) (v_44 : Nat) (v_46 : Nat) (w0_j108_49 : Int32) : Option (Unit × AH × Nat × Nat) := ((hp_il Ev h_l70_12 v_46 (((8 * x1) + y7_l70_12) + w0_j108_49)).bind fun v_50 => ((hp_is Ev h_l70_12 v_44 (((8 * x1) + 8) + y7_l70_12) v_50).bind fun h_52 => ((hp_p Ev h_52 o 10 3).bind fun v_54 => ((hp_p Ev h_52 o 10 3).bind fun v_56 => (if y7_l70_12 < y6_l58_10 then (f_X12_make_j140_59 Ev x1 y7_l70_12 n_l70_12 rec_l70_12 h_52 v_54 v_56 0) else (f_X12_make_j140_59 Ev x1 y7_l70_12 n_l70_12 rec_l70_12 h_52 v_54 v_56 1))))))
def f_X12_make_l70_12 (Ev : rb_E) (o : Nat) (x1 : Int32) (self_ : AH → Nat → Nat → Int32 → Int32 → Option (Unit × AH × Nat × Nat)) (v_6 : Int32) (y6_l58_10 : Int32) (rec_l58_10 : Int32 → AH → Nat → Option (Unit × AH × Nat × Nat)) : Nat → Int32 → AH → Nat → Option (Unit × AH × Nat × Nat)
  | 0, _, _, _ => none
  | k_l70_12 + 1, y7_l70_12, h_l70_12, n_l70_12 => (if ((v_6 - x1) - 1) ≤ y7_l70_12 then ((hp_p Ev h_l70_12 o 10 2).bind fun v_14 => ((hp_p Ev h_l70_12 o 10 3).bind fun v_16 => ((hp_ap Ev h_l70_12 7 v_16 ((8 * x1) + y6_l58_10)).bind fun v_18 => ((hp_p Ev h_l70_12 o 10 2).bind fun v_20 => ((hp_il Ev h_l70_12 v_20 ((8 * x1) + y6_l58_10)).bind fun v_22 => ((hp_p Ev h_l70_12 o 10 2).bind fun v_24 => ((hp_il Ev h_l70_12 v_24 (((8 * x1) + y6_l58_10) + 1)).bind fun v_26 => ((hp_en Ev v_18).bind fun k_28 => ((hp_is Ev h_l70_12 v_14 (((8 * x1) + 8) + y6_l58_10) (f_enap v_18 k_28 v_22 v_26)).bind fun h_30 => ((hp_k Ev h_30 o 10).bind fun u_32 => ((self_ h_30 n_l70_12 o (x1 + 1) (if 0 < (y6_l58_10 - 1) then (y6_l58_10 - 1) else 0)).bind fun (r_35, h_36, k_37, s_38) => (ad k_37 s_38 (rec_l58_10 (y6_l58_10 + 1) h_36 (n_l70_12 + k_37)))))))))))))) else ((hp_p Ev h_l70_12 o 10 2).bind fun v_44 => ((hp_p Ev h_l70_12 o 10 2).bind fun v_46 => (if y7_l70_12 ≤ y6_l58_10 then (f_X12_make_j108_49 Ev o x1 y6_l58_10 y7_l70_12 h_l70_12 n_l70_12 (f_X12_make_l70_12 Ev o x1 self_ v_6 y6_l58_10 rec_l58_10 k_l70_12) v_44 v_46 0) else (f_X12_make_j108_49 Ev o x1 y6_l58_10 y7_l70_12 h_l70_12 n_l70_12 (f_X12_make_l70_12 Ev o x1 self_ v_6 y6_l58_10 rec_l58_10 k_l70_12) v_44 v_46 1)))))
def f_X12_make_l58_10 (Ev : rb_E) (o : Nat) (x1 : Int32) (self_ : AH → Nat → Nat → Int32 → Int32 → Option (Unit × AH × Nat × Nat)) (v_6 : Int32) : Nat → Int32 → AH → Nat → Option (Unit × AH × Nat × Nat)
  | 0, _, _, _ => none
  | k_l58_10 + 1, y6_l58_10, h_l58_10, n_l58_10 => (if ((v_6 - x1) - 1) ≤ y6_l58_10 then (some ((), h_l58_10, 0, 0)) else (f_X12_make_l70_12 Ev o x1 self_ v_6 y6_l58_10 (f_X12_make_l58_10 Ev o x1 self_ v_6 k_l58_10) 4096 0 h_l58_10 n_l58_10))
def f_X12_make_j55_9 (Ev : rb_E) (o : Nat) (x1 : Int32) (x2 : Int32) (self_ : AH → Nat → Nat → Int32 → Int32 → Option (Unit × AH × Nat × Nat)) (v_6 : Int32) (h_j55_9 : AH) (n_j55_9 : Nat) : Option (Unit × AH × Nat × Nat) := (f_X12_make_l58_10 Ev o x1 self_ v_6 4096 x2 h_j55_9 n_j55_9)
def f_X12_make (Ev : rb_E) : Nat → AH → Nat → Nat → Int32 → Int32 → Option (Unit × AH × Nat × Nat)
  | 0, _, _, _, _, _ => none
  | d + 1, h, n, o, x1, x2 => ((hp_p Ev h o 10 0).bind fun v_1 => ((hp_k Ev h v_1 13).bind fun u_3 => ((f_J1_length Ev h v_1).bind fun v_6 => (if (v_6 - x1) = 1 then ((hp_j Ev h o 10 5).bind fun v_66 => ((hp_put h o 10 5 (.long (v_66 + 1))).bind fun h_68 => ((hp_i Ev h_68 o 10 4).bind fun v_70 => ((hp_p Ev h_68 o 10 2).bind fun v_72 => ((hp_il Ev h_68 v_72 (8 * x1)).bind fun v_74 => ((hp_put h_68 o 10 4 (.int (if v_70 < v_74 then v_74 else v_70))).bind fun h_76 => (f_X12_make_j55_9 Ev o x1 x2 (f_X12_make Ev d) v_6 h_76 n))))))) else (f_X12_make_j55_9 Ev o x1 x2 (f_X12_make Ev d) v_6 h n)))))
abbrev rm_X12_make (d : Nat) (k s : Nat) : Room := { frames := 12 + 2 * d, cells := k, slots := s, locals := 400 + 80 * d }
set_option maxHeartbeats 4000000 in
theorem ct_X12_make (Ev : rb_E) (h : AH) (n : Nat) (d : Nat) (o : Nat) (x1 : Int32) (x2 : Int32) (r : Unit) (h' : AH) (k s : Nat) (hf : f_X12_make Ev d h n o x1 x2 = some (r, h', k, s)) : Ct Ev yX12_make (ws_ yX12_make cX12_make 8 none) (rm_X12_make d k s) [.ref o, .int x1, .int x2] h n (pX (.inl (none)) h' (n + k)) := by
  induction d generalizing h n o x1 x2 r h' k s with
  | zero => cases hf
  | succ d ih =>
    rw [f_X12_make] at hf
    refine Ct.of rfl (Nat.le_of_ble_eq_true rfl) fun X C hnm => ?_
    have C : Cx Ev X RX12 cX12_make 8 none [] := C
    show Wa Ev X (rm_X12_make (d + 1) k s) 8 h n 0 0 (rb_MQ Ev X (rm_X12_make (d + 1) k s) (pX (.inl (none)) h' (n + k))) 0 [(0, .ref o), (1, .int x1), (2, .int x2)] []
    have hb : Bd (n + k) k s n 0 0 k s := ⟨rfl, Nat.le_of_eq (Nat.zero_add _), Nat.le_of_eq (Nat.zero_add _)⟩
    refine rb_bipush (v := 8) C dX12_make_0 rfl ?_
    refine rb_iload_n C dX12_make_2 rfl 1 rfl ?_
    refine rb_imul C dX12_make_3 ?_
    refine rb_istore_n (lv' := [(3, .int (8 * x1)), (0, .ref o), (1, .int x1), (2, .int x2)]) C dX12_make_4 rfl (by decide) rfl ?_
    refine rb_iload_n C dX12_make_5 rfl 0 rfl ?_
    refine rb_bipush (v := 8) C dX12_make_6 rfl ?_
    refine rb_iadd C dX12_make_8 ?_
    refine rb_istore (lv' := [(4, .int ((8 * x1) + 8)), (3, .int (8 * x1)), (0, .ref o), (1, .int x1), (2, .int x2)]) C dX12_make_9 (by decide) rfl ?_
    refine rb_aload_n C dX12_make_11 rfl 2 rfl ?_
    obtain ⟨v_1, e_2, hf⟩ := rb_bd hf
    refine rb_hP C fl_X12_18_X12 e_2 dX12_make_12 ?_
    obtain ⟨u_3, e_4, hf⟩ := rb_bd hf
    obtain ⟨v_6, e_7, hf⟩ := rb_bd hf
    refine rb_callV (As := []) (rest := []) C mi_J1_length sv_X12_80 (hp_k_isC C.pf e_4 ck_J1) (ct_J1_length Ev h n v_1 _ e_7) rfl rfl (Nat.le_of_ble_eq_true rfl) ⟨by show 1 + 1 ≤ 12 + 2 * (d + 1); omega, by show 8 + (1 + 11) + 20 ≤ 400 + 80 * (d + 1); omega, hb.c0, hb.s0⟩ dX12_make_15 rb_xXi (rb_kXi fun hn_5 => (rb_w (kc := 0) (ks := 0) rfl rfl ?_))
    refine rb_iload_n C dX12_make_18 rfl 3 rfl ?_
    refine rb_isub C dX12_make_19 ?_
    refine rb_istore (lv' := [(5, .int (v_6 - x1)), (4, .int ((8 * x1) + 8)), (3, .int (8 * x1)), (0, .ref o), (1, .int x1), (2, .int x2)]) C dX12_make_20 (by decide) rfl ?_
    refine rb_iload C dX12_make_22 0 rfl ?_
    refine rb_iconst (v := 1) C dX12_make_24 rfl ?_
    have J_j55_9 : ∀ (h_j55_9 : AH) (n_j55_9 : Nat) (kc_j55_9 ks_j55_9 a_ b_ : Nat), f_X12_make_j55_9 Ev o x1 x2 (f_X12_make Ev d) v_6 h_j55_9 n_j55_9 = some (r, h', a_, b_) → Bd (n + k) k s n_j55_9 kc_j55_9 ks_j55_9 a_ b_ → Wa Ev X (rm_X12_make (d + 1) k s) 8 h_j55_9 n_j55_9 kc_j55_9 ks_j55_9 (rb_MQ Ev X (rm_X12_make (d + 1) k s) (pX (.inl (none)) h' (n + k))) 55 [(0, .ref o), (1, .int x1), (2, .int x2), (3, .int (8 * x1)), (4, .int ((8 * x1) + 8)), (5, .int (v_6 - x1))] [] := by
      intro h_j55_9 n_j55_9 kc_j55_9 ks_j55_9 a_ b_ hf hb
      rw [f_X12_make_j55_9] at hf
      refine rb_iload_n C dX12_make_55 rfl 2 rfl ?_
      refine rb_istore (lv' := [(6, .int x2), (0, .ref o), (1, .int x1), (2, .int x2), (3, .int (8 * x1)), (4, .int ((8 * x1) + 8)), (5, .int (v_6 - x1))]) C dX12_make_56 (by decide) rfl ?_
      have L_l58_10 : ∀ (k_l58_10 : Nat) (y6_l58_10 : Int32) (h_l58_10 : AH) (n_l58_10 kc_l58_10 ks_l58_10 a_ b_ : Nat), f_X12_make_l58_10 Ev o x1 (f_X12_make Ev d) v_6 k_l58_10 y6_l58_10 h_l58_10 n_l58_10 = some (r, h', a_, b_) → Bd (n + k) k s n_l58_10 kc_l58_10 ks_l58_10 a_ b_ → Wa Ev X (rm_X12_make (d + 1) k s) 8 h_l58_10 n_l58_10 kc_l58_10 ks_l58_10 (rb_MQ Ev X (rm_X12_make (d + 1) k s) (pX (.inl (none)) h' (n + k))) 58 [(0, .ref o), (1, .int x1), (2, .int x2), (3, .int (8 * x1)), (4, .int ((8 * x1) + 8)), (5, .int (v_6 - x1)), (6, .int y6_l58_10)] [] := by
        intro k_l58_10
        induction k_l58_10 with
        | zero => intro y6_l58_10 h_l58_10 n_l58_10 kc_l58_10 ks_l58_10 a_ b_ hf hb; cases hf
        | succ k_l58_10 ih_l58_10 =>
          intro y6_l58_10 h_l58_10 n_l58_10 kc_l58_10 ks_l58_10 a_ b_ hf hb
          rw [f_X12_make_l58_10] at hf
          refine rb_iload C dX12_make_58 6 rfl ?_
          refine rb_iload C dX12_make_60 5 rfl ?_
          refine rb_iconst (v := 1) C dX12_make_62 rfl ?_
          refine rb_isub C dX12_make_63 ?_
          refine rb_icmp_ge (tgt := 212) C dX12_make_64 (by decide) (fun c_11 => ?_) (fun c_11 => ?_)
          · have hf := (if_pos c_11).symm.trans hf
            cases hf
            exact rb_vret C rfl hb.e.2.1 hb.e.2.2 dX12_make_212 ⟨rfl, rfl, hb.e.1⟩
          · have hf := (if_neg c_11).symm.trans hf
            refine rb_iconst (v := 0) C dX12_make_67 rfl ?_
            refine rb_istore (lv' := [(7, .int 0), (0, .ref o), (1, .int x1), (2, .int x2), (3, .int (8 * x1)), (4, .int ((8 * x1) + 8)), (5, .int (v_6 - x1)), (6, .int y6_l58_10)]) C dX12_make_68 (by decide) rfl ?_
            have L_l70_12 : ∀ (k_l70_12 : Nat) (y7_l70_12 : Int32) (h_l70_12 : AH) (n_l70_12 kc_l70_12 ks_l70_12 a_ b_ : Nat), f_X12_make_l70_12 Ev o x1 (f_X12_make Ev d) v_6 y6_l58_10 (f_X12_make_l58_10 Ev o x1 (f_X12_make Ev d) v_6 k_l58_10) k_l70_12 y7_l70_12 h_l70_12 n_l70_12 = some (r, h', a_, b_) → Bd (n + k) k s n_l70_12 kc_l70_12 ks_l70_12 a_ b_ → Wa Ev X (rm_X12_make (d + 1) k s) 8 h_l70_12 n_l70_12 kc_l70_12 ks_l70_12 (rb_MQ Ev X (rm_X12_make (d + 1) k s) (pX (.inl (none)) h' (n + k))) 70 [(0, .ref o), (1, .int x1), (2, .int x2), (3, .int (8 * x1)), (4, .int ((8 * x1) + 8)), (5, .int (v_6 - x1)), (6, .int y6_l58_10), (7, .int y7_l70_12)] [] := by
              intro k_l70_12
              induction k_l70_12 with
              | zero => intro y7_l70_12 h_l70_12 n_l70_12 kc_l70_12 ks_l70_12 a_ b_ hf hb; cases hf
              | succ k_l70_12 ih_l70_12 =>
                intro y7_l70_12 h_l70_12 n_l70_12 kc_l70_12 ks_l70_12 a_ b_ hf hb
                rw [f_X12_make_l70_12] at hf
                refine rb_iload C dX12_make_70 7 rfl ?_
                refine rb_iload C dX12_make_72 5 rfl ?_
                refine rb_iconst (v := 1) C dX12_make_74 rfl ?_
                refine rb_isub C dX12_make_75 ?_
                refine rb_icmp_ge (tgt := 149) C dX12_make_76 (by decide) (fun c_13 => ?_) (fun c_13 => ?_)
                · have hf := (if_pos c_13).symm.trans hf
                  refine rb_aload_n C dX12_make_149 rfl 0 rfl ?_
                  obtain ⟨v_14, e_15, hf⟩ := rb_bd hf
                  refine rb_hP C fl_X12_25_X12 e_15 dX12_make_150 ?_
                  refine rb_iload C dX12_make_153 4 rfl ?_
                  refine rb_iload C dX12_make_155 6 rfl ?_
                  refine rb_iadd C dX12_make_157 ?_
                  refine rb_aload_n C dX12_make_158 rfl 0 rfl ?_
                  obtain ⟨v_16, e_17, hf⟩ := rb_bd hf
                  refine rb_hP C fl_X12_31_X12 e_17 dX12_make_159 ?_
                  refine rb_iload_n C dX12_make_162 rfl 3 rfl ?_
                  refine rb_iload C dX12_make_163 6 rfl ?_
                  refine rb_iadd C dX12_make_165 ?_
                  obtain ⟨v_18, e_19, hf⟩ := rb_bd hf
                  refine rb_hap C 7 rfl rfl e_19 dX12_make_166 ?_
                  refine rb_aload_n C dX12_make_167 rfl 0 rfl ?_
                  obtain ⟨v_20, e_21, hf⟩ := rb_bd hf
                  refine rb_hP C fl_X12_25_X12 e_21 dX12_make_168 ?_
                  refine rb_iload_n C dX12_make_171 rfl 3 rfl ?_
                  refine rb_iload C dX12_make_172 6 rfl ?_
                  refine rb_iadd C dX12_make_174 ?_
                  obtain ⟨v_22, e_23, hf⟩ := rb_bd hf
                  refine rb_hil C e_23 dX12_make_175 ?_
                  refine rb_aload_n C dX12_make_176 rfl 0 rfl ?_
                  obtain ⟨v_24, e_25, hf⟩ := rb_bd hf
                  refine rb_hP C fl_X12_25_X12 e_25 dX12_make_177 ?_
                  refine rb_iload_n C dX12_make_180 rfl 3 rfl ?_
                  refine rb_iload C dX12_make_181 6 rfl ?_
                  refine rb_iadd C dX12_make_183 ?_
                  refine rb_iconst (v := 1) C dX12_make_184 rfl ?_
                  refine rb_iadd C dX12_make_185 ?_
                  obtain ⟨v_26, e_27, hf⟩ := rb_bd hf
                  refine rb_hil C e_27 dX12_make_186 ?_
                  obtain ⟨k_28, e_29, hf⟩ := rb_bd hf
                  suffices kk_ap : Wa Ev X (rm_X12_make (d + 1) k s) 8 h_l70_12 n_l70_12 kc_l70_12 ks_l70_12 (rb_MQ Ev X (rm_X12_make (d + 1) k s) (pX (.inl (none)) h' (n + k))) 190 [(0, .ref o), (1, .int x1), (2, .int x2), (3, .int (8 * x1)), (4, .int ((8 * x1) + 8)), (5, .int (v_6 - x1)), (6, .int y6_l58_10), (7, .int y7_l70_12)] [.int (f_enap v_18 k_28 v_22 v_26), .int (((8 * x1) + 8) + y6_l58_10), .ref v_14] by
                    obtain ⟨g1_ap, g2_ap⟩ := hp_en_at e_29
                    rcases (show k_28 = 0 ∨ k_28 = 1 ∨ k_28 = 2 ∨ k_28 = 3 ∨ k_28 = 4 ∨ k_28 = 5 by omega) with rfl | rfl | rfl | rfl | rfl | rfl
                    · exact rb_callVOR (As := [.int v_22, .int v_26]) (rest := [.int (((8 * x1) + 8) + y6_l58_10), .ref v_14]) C mr_X15_apply so_X12_98_X15_apply (hp_en_isC e_29) (ct_X15_apply Ev h_l70_12 n_l70_12 v_18 v_22 v_26 (f_enap v_18 0 v_22 v_26) rfl) rfl rfl (Nat.le_of_ble_eq_true rfl) ⟨by show 0 + 1 ≤ 12 + 2 * (d + 1); omega, by show 8 + (3 + 11) + 0 ≤ 400 + 80 * (d + 1); omega, hb.c0, hb.s0⟩ dX12_make_187 rb_xXi (rb_kXi fun _ => rb_w (kc := kc_l70_12) (ks := ks_l70_12) rfl rfl kk_ap)
                    · exact rb_callVOR (As := [.int v_22, .int v_26]) (rest := [.int (((8 * x1) + 8) + y6_l58_10), .ref v_14]) C mr_X16_apply so_X12_98_X16_apply (hp_en_isC e_29) (ct_X16_apply Ev h_l70_12 n_l70_12 v_18 v_22 v_26 (f_enap v_18 1 v_22 v_26) rfl) rfl rfl (Nat.le_of_ble_eq_true rfl) ⟨by show 0 + 1 ≤ 12 + 2 * (d + 1); omega, by show 8 + (3 + 11) + 0 ≤ 400 + 80 * (d + 1); omega, hb.c0, hb.s0⟩ dX12_make_187 rb_xXi (rb_kXi fun _ => rb_w (kc := kc_l70_12) (ks := ks_l70_12) rfl rfl kk_ap)
                    · exact rb_callVOR (As := [.int v_22, .int v_26]) (rest := [.int (((8 * x1) + 8) + y6_l58_10), .ref v_14]) C mr_X17_apply so_X12_98_X17_apply (hp_en_isC e_29) (ct_X17_apply Ev h_l70_12 n_l70_12 v_18 v_22 v_26 (f_enap v_18 2 v_22 v_26) rfl) rfl rfl (Nat.le_of_ble_eq_true rfl) ⟨by show 0 + 1 ≤ 12 + 2 * (d + 1); omega, by show 8 + (3 + 11) + 0 ≤ 400 + 80 * (d + 1); omega, hb.c0, hb.s0⟩ dX12_make_187 rb_xXi (rb_kXi fun _ => rb_w (kc := kc_l70_12) (ks := ks_l70_12) rfl rfl kk_ap)
                    · exact rb_callVOR (As := [.int v_22, .int v_26]) (rest := [.int (((8 * x1) + 8) + y6_l58_10), .ref v_14]) C mr_X18_apply so_X12_98_X18_apply (hp_en_isC e_29) (ct_X18_apply Ev h_l70_12 n_l70_12 v_18 v_22 v_26 (f_enap v_18 3 v_22 v_26) rfl) rfl rfl (Nat.le_of_ble_eq_true rfl) ⟨by show 1 + 1 ≤ 12 + 2 * (d + 1); omega, by show 8 + (3 + 11) + 60 ≤ 400 + 80 * (d + 1); omega, hb.c0, hb.s0⟩ dX12_make_187 rb_xXi (rb_kXi fun _ => rb_w (kc := kc_l70_12) (ks := ks_l70_12) rfl rfl kk_ap)
                    · exact rb_callVOR (As := [.int v_22, .int v_26]) (rest := [.int (((8 * x1) + 8) + y6_l58_10), .ref v_14]) C mr_X19_apply so_X12_98_X19_apply (hp_en_isC e_29) (ct_X19_apply Ev h_l70_12 n_l70_12 v_18 v_22 v_26 (f_enap v_18 4 v_22 v_26) rfl) rfl rfl (Nat.le_of_ble_eq_true rfl) ⟨by show 1 + 1 ≤ 12 + 2 * (d + 1); omega, by show 8 + (3 + 11) + 60 ≤ 400 + 80 * (d + 1); omega, hb.c0, hb.s0⟩ dX12_make_187 rb_xXi (rb_kXi fun _ => rb_w (kc := kc_l70_12) (ks := ks_l70_12) rfl rfl kk_ap)
                    · exact rb_callVOR (As := [.int v_22, .int v_26]) (rest := [.int (((8 * x1) + 8) + y6_l58_10), .ref v_14]) C mr_X20_apply so_X12_98_X20_apply (hp_en_isC e_29) (ct_X20_apply Ev h_l70_12 n_l70_12 v_18 v_22 v_26 (f_enap v_18 5 v_22 v_26) rfl) rfl rfl (Nat.le_of_ble_eq_true rfl) ⟨by show 0 + 1 ≤ 12 + 2 * (d + 1); omega, by show 8 + (3 + 11) + 0 ≤ 400 + 80 * (d + 1); omega, hb.c0, hb.s0⟩ dX12_make_187 rb_xXi (rb_kXi fun _ => rb_w (kc := kc_l70_12) (ks := ks_l70_12) rfl rfl kk_ap)
                  obtain ⟨h_30, e_31, hf⟩ := rb_bd hf
                  refine rb_his C e_31 dX12_make_190 ?_
                  refine rb_aload_n C dX12_make_191 rfl 0 rfl ?_
                  refine rb_iload_n C dX12_make_192 rfl 1 rfl ?_
                  refine rb_iconst (v := 1) C dX12_make_193 rfl ?_
                  refine rb_iadd C dX12_make_194 ?_
                  refine rb_iconst (v := 0) C dX12_make_195 rfl ?_
                  refine rb_iload C dX12_make_196 6 rfl ?_
                  refine rb_iconst (v := 1) C dX12_make_198 rfl ?_
                  refine rb_isub C dX12_make_199 ?_
                  refine rb_mmax C q1831 q288 q81 q289 (Nat.le_of_ble_eq_true rfl) (Nat.le_of_ble_eq_true rfl) hb.c0 hb.s0 dX12_make_200 ?_
                  obtain ⟨u_32, e_33, hf⟩ := rb_bd hf
                  obtain ⟨⟨r_35, h_36, k_37, s_38⟩, e_39, hf⟩ := rb_bd hf
                  obtain ⟨a_42, b_43, hf, ea_40, eb_41⟩ := ad_at hf
                  refine rb_callV (As := [.int (x1 + 1), .int (if 0 < (y6_l58_10 - 1) then (y6_l58_10 - 1) else 0)]) (rest := []) C mi_X12_make sv_X12_117 (hp_k_isC C.pf e_33 ck_X12) (ih h_30 n_l70_12 o (x1 + 1) (if 0 < (y6_l58_10 - 1) then (y6_l58_10 - 1) else 0) r_35 _ _ _ e_39) rfl rfl (Nat.le_of_ble_eq_true rfl) ⟨by show (12 + 2 * d) + 1 ≤ 12 + 2 * (d + 1); omega, by show 8 + (8 + 11) + (400 + 80 * d) ≤ 400 + 80 * (d + 1); omega, Bd.c1 hb ea_40, Bd.s1 hb eb_41⟩ dX12_make_203 rb_xX (rb_kX (rb_w (kc := (kc_l70_12 + k_37)) (ks := (ks_l70_12 + s_38)) rfl rfl ?_))
                  have hb := Bd.ade hb ea_40 eb_41
                  refine rb_iinc (v := (y6_l58_10 + 1)) (lv' := [(6, .int (y6_l58_10 + 1)), (0, .ref o), (1, .int x1), (2, .int x2), (3, .int (8 * x1)), (4, .int ((8 * x1) + 8)), (5, .int (v_6 - x1)), (7, .int y7_l70_12)]) C dX12_make_206 (k := 6) rfl rfl (by decide) rfl ?_
                  refine rb_goto (tgt := 58) C dX12_make_209 (by decide) ?_
                  refine rb_sub [1, 2, 3, 4, 5, 6, 0] rfl ?_
                  exact ih_l58_10 (y6_l58_10 + 1) h_36 (n_l70_12 + k_37) _ _ _ _ hf hb
                · have hf := (if_neg c_13).symm.trans hf
                  refine rb_aload_n C dX12_make_79 rfl 0 rfl ?_
                  obtain ⟨v_44, e_45, hf⟩ := rb_bd hf
                  refine rb_hP C fl_X12_25_X12 e_45 dX12_make_80 ?_
                  refine rb_iload C dX12_make_83 4 rfl ?_
                  refine rb_iload C dX12_make_85 7 rfl ?_
                  refine rb_iadd C dX12_make_87 ?_
                  refine rb_aload_n C dX12_make_88 rfl 0 rfl ?_
                  obtain ⟨v_46, e_47, hf⟩ := rb_bd hf
                  refine rb_hP C fl_X12_25_X12 e_47 dX12_make_89 ?_
                  refine rb_iload_n C dX12_make_92 rfl 3 rfl ?_
                  refine rb_iload C dX12_make_93 7 rfl ?_
                  refine rb_iadd C dX12_make_95 ?_
                  refine rb_iload C dX12_make_96 7 rfl ?_
                  refine rb_iload C dX12_make_98 6 rfl ?_
                  have J_j108_49 : ∀ (w0_j108_49 : Int32) (kc_j108_49 ks_j108_49 a_ b_ : Nat), f_X12_make_j108_49 Ev o x1 y6_l58_10 y7_l70_12 h_l70_12 n_l70_12 (f_X12_make_l70_12 Ev o x1 (f_X12_make Ev d) v_6 y6_l58_10 (f_X12_make_l58_10 Ev o x1 (f_X12_make Ev d) v_6 k_l58_10) k_l70_12) v_44 v_46 w0_j108_49 = some (r, h', a_, b_) → Bd (n + k) k s n_l70_12 kc_j108_49 ks_j108_49 a_ b_ → Wa Ev X (rm_X12_make (d + 1) k s) 8 h_l70_12 n_l70_12 kc_j108_49 ks_j108_49 (rb_MQ Ev X (rm_X12_make (d + 1) k s) (pX (.inl (none)) h' (n + k))) 108 [(0, .ref o), (1, .int x1), (2, .int x2), (3, .int (8 * x1)), (4, .int ((8 * x1) + 8)), (5, .int (v_6 - x1)), (6, .int y6_l58_10), (7, .int y7_l70_12)] [.int w0_j108_49, .int ((8 * x1) + y7_l70_12), .ref v_46, .int (((8 * x1) + 8) + y7_l70_12), .ref v_44] := by
                    intro w0_j108_49 kc_j108_49 ks_j108_49 a_ b_ hf hb
                    rw [f_X12_make_j108_49] at hf
                    refine rb_iadd C dX12_make_108 ?_
                    obtain ⟨v_50, e_51, hf⟩ := rb_bd hf
                    refine rb_hil C e_51 dX12_make_109 ?_
                    obtain ⟨h_52, e_53, hf⟩ := rb_bd hf
                    refine rb_his C e_53 dX12_make_110 ?_
                    refine rb_aload_n C dX12_make_111 rfl 0 rfl ?_
                    obtain ⟨v_54, e_55, hf⟩ := rb_bd hf
                    refine rb_hP C fl_X12_31_X12 e_55 dX12_make_112 ?_
                    refine rb_iload C dX12_make_115 4 rfl ?_
                    refine rb_iload C dX12_make_117 7 rfl ?_
                    refine rb_iadd C dX12_make_119 ?_
                    refine rb_aload_n C dX12_make_120 rfl 0 rfl ?_
                    obtain ⟨v_56, e_57, hf⟩ := rb_bd hf
                    refine rb_hP C fl_X12_31_X12 e_57 dX12_make_121 ?_
                    refine rb_iload_n C dX12_make_124 rfl 3 rfl ?_
                    refine rb_iload C dX12_make_125 7 rfl ?_
                    refine rb_iadd C dX12_make_127 ?_
                    refine rb_iload C dX12_make_128 7 rfl ?_
                    refine rb_iload C dX12_make_130 6 rfl ?_
                    have J_j140_59 : ∀ (w0_j140_59 : Int32) (kc_j140_59 ks_j140_59 a_ b_ : Nat), f_X12_make_j140_59 Ev x1 y7_l70_12 n_l70_12 (f_X12_make_l70_12 Ev o x1 (f_X12_make Ev d) v_6 y6_l58_10 (f_X12_make_l58_10 Ev o x1 (f_X12_make Ev d) v_6 k_l58_10) k_l70_12) h_52 v_54 v_56 w0_j140_59 = some (r, h', a_, b_) → Bd (n + k) k s n_l70_12 kc_j140_59 ks_j140_59 a_ b_ → Wa Ev X (rm_X12_make (d + 1) k s) 8 h_52 n_l70_12 kc_j140_59 ks_j140_59 (rb_MQ Ev X (rm_X12_make (d + 1) k s) (pX (.inl (none)) h' (n + k))) 140 [(0, .ref o), (1, .int x1), (2, .int x2), (3, .int (8 * x1)), (4, .int ((8 * x1) + 8)), (5, .int (v_6 - x1)), (6, .int y6_l58_10), (7, .int y7_l70_12)] [.int w0_j140_59, .int ((8 * x1) + y7_l70_12), .ref v_56, .int (((8 * x1) + 8) + y7_l70_12), .ref v_54] := by
                      intro w0_j140_59 kc_j140_59 ks_j140_59 a_ b_ hf hb
                      rw [f_X12_make_j140_59] at hf
                      refine rb_iadd C dX12_make_140 ?_
                      obtain ⟨v_60, e_61, hf⟩ := rb_bd hf
                      refine rb_hap C 7 rfl rfl e_61 dX12_make_141 ?_
                      obtain ⟨u_63, e_64, hf⟩ := rb_bd hf
                      obtain ⟨h_62, e_65, hf⟩ := rb_bd hf
                      refine rb_hasE C 7 rfl en_ok e_64 e_65 dX12_make_142 ?_
                      refine rb_iinc (v := (y7_l70_12 + 1)) (lv' := [(7, .int (y7_l70_12 + 1)), (0, .ref o), (1, .int x1), (2, .int x2), (3, .int (8 * x1)), (4, .int ((8 * x1) + 8)), (5, .int (v_6 - x1)), (6, .int y6_l58_10)]) C dX12_make_143 (k := 7) rfl rfl (by decide) rfl ?_
                      refine rb_goto (tgt := 70) C dX12_make_146 (by decide) ?_
                      refine rb_sub [1, 2, 3, 4, 5, 6, 7, 0] rfl ?_
                      exact ih_l70_12 (y7_l70_12 + 1) h_62 n_l70_12 _ _ _ _ hf hb
                    refine rb_icmp_lt (tgt := 139) C dX12_make_132 (by decide) (fun c_58 => ?_) (fun c_58 => ?_)
                    · have hf := (if_pos c_58).symm.trans hf
                      refine rb_iconst (v := 0) C dX12_make_139 rfl ?_
                      exact J_j140_59 0  _ _ _ _ hf hb
                    · have hf := (if_neg c_58).symm.trans hf
                      refine rb_iconst (v := 1) C dX12_make_135 rfl ?_
                      refine rb_goto (tgt := 140) C dX12_make_136 (by decide) ?_
                      exact J_j140_59 1  _ _ _ _ hf hb
                  refine rb_icmp_le (tgt := 107) C dX12_make_100 (by decide) (fun c_48 => ?_) (fun c_48 => ?_)
                  · have hf := (if_pos c_48).symm.trans hf
                    refine rb_iconst (v := 0) C dX12_make_107 rfl ?_
                    exact J_j108_49 0  _ _ _ _ hf hb
                  · have hf := (if_neg c_48).symm.trans hf
                    refine rb_iconst (v := 1) C dX12_make_103 rfl ?_
                    refine rb_goto (tgt := 108) C dX12_make_104 (by decide) ?_
                    exact J_j108_49 1  _ _ _ _ hf hb
            refine rb_sub [1, 2, 3, 4, 5, 6, 7, 0] rfl ?_
            exact L_l70_12 4096 0 h_l58_10 n_l58_10 _ _ _ _ hf hb
      refine rb_sub [1, 2, 3, 4, 5, 6, 0] rfl ?_
      exact L_l58_10 4096 x2 h_j55_9 n_j55_9 _ _ _ _ hf hb
    refine rb_icmp_ne (tgt := 55) C dX12_make_25 (by decide) (fun c_8 => ?_) (fun c_8 => ?_)
    · have hf := (if_neg c_8).symm.trans hf
      refine rb_sub [3, 4, 5, 2, 1, 0] rfl ?_
      exact J_j55_9 h n  _ _ _ _ hf hb
    · have hf := (if_pos c_8).symm.trans hf
      refine rb_aload_n C dX12_make_28 rfl 3 rfl ?_
      refine rb_dup C dX12_make_29 rfl ?_
      obtain ⟨v_66, e_67, hf⟩ := rb_bd hf
      refine rb_hJ C fl_X12_108_X12 e_67 dX12_make_30 ?_
      refine rb_lconst (v := 1) C dX12_make_33 rfl ?_
      refine rb_ladd C dX12_make_34 ?_
      obtain ⟨h_68, e_69, hf⟩ := rb_bd hf
      refine rb_hput C fw_X12_108_X12 e_69 rfl rfl dX12_make_35 ?_
      refine rb_aload_n C dX12_make_38 rfl 3 rfl ?_
      refine rb_aload_n C dX12_make_39 rfl 3 rfl ?_
      obtain ⟨v_70, e_71, hf⟩ := rb_bd hf
      refine rb_hI C fl_X12_35_X12 e_71 dX12_make_40 ?_
      refine rb_aload_n C dX12_make_43 rfl 3 rfl ?_
      obtain ⟨v_72, e_73, hf⟩ := rb_bd hf
      refine rb_hP C fl_X12_25_X12 e_73 dX12_make_44 ?_
      refine rb_iload_n C dX12_make_47 rfl 2 rfl ?_
      obtain ⟨v_74, e_75, hf⟩ := rb_bd hf
      refine rb_hil C e_75 dX12_make_48 ?_
      refine rb_mmax C q1831 q288 q81 q289 (Nat.le_of_ble_eq_true rfl) (Nat.le_of_ble_eq_true rfl) hb.c0 hb.s0 dX12_make_49 ?_
      obtain ⟨h_76, e_77, hf⟩ := rb_bd hf
      refine rb_hput C fw_X12_35_X12 e_77 rfl rfl dX12_make_52 ?_
      refine rb_sub [3, 4, 5, 2, 1, 0] rfl ?_
      exact J_j55_9 h_76 n  _ _ _ _ hf hb
def f_X12_makeAll_l45_10 (Ev : rb_E) (o : Nat) : Nat → Int32 → AH → Nat → Option ((Nat ⊕ (String × Nat)) × AH × Nat × Nat)
  | 0, _, _, _ => none
  | k_l45_10 + 1, y1_l45_10, h_l45_10, n_l45_10 => ((hp_p Ev h_l45_10 o 10 1).bind fun v_11 => ((hp_k Ev h_l45_10 v_11 13).bind fun u_13 => ((f_J1_length Ev h_l45_10 v_11).bind fun v_16 => (if v_16 ≤ y1_l45_10 then ((hp_k Ev h_l45_10 o 10).bind fun u_19 => ((f_X12_make Ev 30 h_l45_10 n_l45_10 o 0 0).bind fun (r_22, h_23, k_24, s_25) => (ad k_24 s_25 (some (.inl o, h_23, 0, 0))))) else ((hp_p Ev h_l45_10 o 10 3).bind fun v_31 => ((hp_p Ev h_l45_10 o 10 6).bind fun v_33 => ((hp_p Ev h_l45_10 v_33 0 0).bind fun v_35 => ((hp_p Ev h_l45_10 o 10 1).bind fun v_37 => ((hp_k Ev h_l45_10 v_37 13).bind fun u_39 => ((f_J1_charAt Ev h_l45_10 v_37 y1_l45_10).bind fun v_42 => ((hp_k Ev h_l45_10 v_35 1).bind fun u_44 => ((f_X2_meaningOf Ev h_l45_10 n_l45_10 v_35 v_42).bind fun (r_47, h_48, k_49, s_50) => (ad k_49 s_50 (match r_47 with | .inl v_56 => ((hp_en Ev v_56).bind fun u_60 => ((hp_as Ev h_48 7 v_31 y1_l45_10 (some v_56)).bind fun h_59 => ((f_X12_makeAll_l45_10 Ev o k_l45_10) (y1_l45_10 + 1) h_59 (n_l45_10 + k_49)))) | .inr (E_57, q_58) => (if E_57 = "java/lang/IllegalArgumentException" then (some (.inr ("java/lang/IllegalArgumentException", q_58), h_48, 0, 0)) else none)))))))))))))))
def f_X12_makeAll_l2_1 (Ev : rb_E) (o : Nat) : Nat → Int32 → AH → Nat → Option ((Nat ⊕ (String × Nat)) × AH × Nat × Nat)
  | 0, _, _, _ => none
  | k_l2_1 + 1, y1_l2_1, h_l2_1, n_l2_1 => ((hp_p Ev h_l2_1 o 10 0).bind fun v_2 => ((hp_k Ev h_l2_1 v_2 13).bind fun u_4 => ((f_J1_length Ev h_l2_1 v_2).bind fun v_7 => (if v_7 ≤ y1_l2_1 then (f_X12_makeAll_l45_10 Ev o 4096 0 h_l2_1 n_l2_1) else ((hp_p Ev h_l2_1 o 10 2).bind fun v_64 => ((hp_p Ev h_l2_1 o 10 6).bind fun v_66 => ((hp_p Ev h_l2_1 v_66 0 0).bind fun v_68 => ((hp_p Ev h_l2_1 o 10 0).bind fun v_70 => ((hp_k Ev h_l2_1 v_70 13).bind fun u_72 => ((f_J1_charAt Ev h_l2_1 v_70 y1_l2_1).bind fun v_75 => ((hp_k Ev h_l2_1 v_68 1).bind fun u_77 => ((f_X2_valueOf Ev h_l2_1 v_68 v_75).bind fun v_80 => ((hp_is Ev h_l2_1 v_64 y1_l2_1 v_80).bind fun h_82 => ((f_X12_makeAll_l2_1 Ev o k_l2_1) (y1_l2_1 + 1) h_82 n_l2_1))))))))))))))
def f_X12_makeAll (Ev : rb_E) (h : AH) (n : Nat) (o : Nat) : Option ((Nat ⊕ (String × Nat)) × AH × Nat × Nat) := (f_X12_makeAll_l2_1 Ev o 4096 0 h n)
abbrev rm_X12_makeAll (k s : Nat) : Room := { frames := 73, cells := k, slots := s, locals := 2827 }
set_option maxHeartbeats 4000000 in
theorem ct_X12_makeAll (Ev : rb_E) (h : AH) (n : Nat) (o : Nat) (r : Nat ⊕ (String × Nat)) (h' : AH) (k s : Nat) (hf : f_X12_makeAll Ev h n o = some (r, h', k, s)) : Ct Ev yX12_makeAll (ws_ yX12_makeAll cX12_makeAll 2 (some (.object "RainbowOperators$Row"))) (rm_X12_makeAll k s) [.ref o] h n (pX (rMap (fun v => some (.ref v)) r) h' (n + k)) := by
  rw [f_X12_makeAll] at hf
  refine Ct.of rfl (Nat.le_of_ble_eq_true rfl) fun X C hnm => ?_
  have C : Cx Ev X RX12 cX12_makeAll 2 (some (.object "RainbowOperators$Row")) [] := C
  show Wa Ev X (rm_X12_makeAll k s) 2 h n 0 0 (rb_MQ Ev X (rm_X12_makeAll k s) (pX (rMap (fun v => some (.ref v)) r) h' (n + k))) 0 [(0, .ref o)] []
  have hb : Bd (n + k) k s n 0 0 k s := ⟨rfl, Nat.le_of_eq (Nat.zero_add _), Nat.le_of_eq (Nat.zero_add _)⟩
  refine rb_iconst (v := 0) C dX12_makeAll_0 rfl ?_
  refine rb_istore_n (lv' := [(1, .int 0), (0, .ref o)]) C dX12_makeAll_1 rfl (by decide) rfl ?_
  have L_l2_1 : ∀ (k_l2_1 : Nat) (y1_l2_1 : Int32) (h_l2_1 : AH) (n_l2_1 kc_l2_1 ks_l2_1 a_ b_ : Nat), f_X12_makeAll_l2_1 Ev o k_l2_1 y1_l2_1 h_l2_1 n_l2_1 = some (r, h', a_, b_) → Bd (n + k) k s n_l2_1 kc_l2_1 ks_l2_1 a_ b_ → Wa Ev X (rm_X12_makeAll k s) 2 h_l2_1 n_l2_1 kc_l2_1 ks_l2_1 (rb_MQ Ev X (rm_X12_makeAll k s) (pX (rMap (fun v => some (.ref v)) r) h' (n + k))) 2 [(0, .ref o), (1, .int y1_l2_1)] [] := by
    intro k_l2_1
    induction k_l2_1 with
    | zero => intro y1_l2_1 h_l2_1 n_l2_1 kc_l2_1 ks_l2_1 a_ b_ hf hb; cases hf
    | succ k_l2_1 ih_l2_1 =>
      intro y1_l2_1 h_l2_1 n_l2_1 kc_l2_1 ks_l2_1 a_ b_ hf hb
      rw [f_X12_makeAll_l2_1] at hf
      refine rb_iload_n C dX12_makeAll_2 rfl 1 rfl ?_
      refine rb_aload_n C dX12_makeAll_3 rfl 0 rfl ?_
      obtain ⟨v_2, e_3, hf⟩ := rb_bd hf
      refine rb_hP C fl_X12_18_X12 e_3 dX12_makeAll_4 ?_
      obtain ⟨u_4, e_5, hf⟩ := rb_bd hf
      obtain ⟨v_7, e_8, hf⟩ := rb_bd hf
      refine rb_callV (As := []) (rest := [.int y1_l2_1]) C mi_J1_length sv_X12_80 (hp_k_isC C.pf e_5 ck_J1) (ct_J1_length Ev h_l2_1 n_l2_1 v_2 _ e_8) rfl rfl (Nat.le_of_ble_eq_true rfl) ⟨Nat.le_of_ble_eq_true rfl, Nat.le_of_ble_eq_true rfl, hb.c0, hb.s0⟩ dX12_makeAll_7 rb_xXi (rb_kXi fun hn_6 => (rb_w (kc := kc_l2_1) (ks := ks_l2_1) rfl rfl ?_))
      refine rb_icmp_ge (tgt := 43) C dX12_makeAll_10 (by decide) (fun c_9 => ?_) (fun c_9 => ?_)
      · have hf := (if_pos c_9).symm.trans hf
        refine rb_iconst (v := 0) C dX12_makeAll_43 rfl ?_
        refine rb_istore_n (lv' := [(1, .int 0), (0, .ref o)]) C dX12_makeAll_44 rfl (by decide) rfl ?_
        have L_l45_10 : ∀ (k_l45_10 : Nat) (y1_l45_10 : Int32) (h_l45_10 : AH) (n_l45_10 kc_l45_10 ks_l45_10 a_ b_ : Nat), f_X12_makeAll_l45_10 Ev o k_l45_10 y1_l45_10 h_l45_10 n_l45_10 = some (r, h', a_, b_) → Bd (n + k) k s n_l45_10 kc_l45_10 ks_l45_10 a_ b_ → Wa Ev X (rm_X12_makeAll k s) 2 h_l45_10 n_l45_10 kc_l45_10 ks_l45_10 (rb_MQ Ev X (rm_X12_makeAll k s) (pX (rMap (fun v => some (.ref v)) r) h' (n + k))) 45 [(0, .ref o), (1, .int y1_l45_10)] [] := by
          intro k_l45_10
          induction k_l45_10 with
          | zero => intro y1_l45_10 h_l45_10 n_l45_10 kc_l45_10 ks_l45_10 a_ b_ hf hb; cases hf
          | succ k_l45_10 ih_l45_10 =>
            intro y1_l45_10 h_l45_10 n_l45_10 kc_l45_10 ks_l45_10 a_ b_ hf hb
            rw [f_X12_makeAll_l45_10] at hf
            refine rb_iload_n C dX12_makeAll_45 rfl 1 rfl ?_
            refine rb_aload_n C dX12_makeAll_46 rfl 0 rfl ?_
            obtain ⟨v_11, e_12, hf⟩ := rb_bd hf
            refine rb_hP C fl_X12_22_X12 e_12 dX12_makeAll_47 ?_
            obtain ⟨u_13, e_14, hf⟩ := rb_bd hf
            obtain ⟨v_16, e_17, hf⟩ := rb_bd hf
            refine rb_callV (As := []) (rest := [.int y1_l45_10]) C mi_J1_length sv_X12_80 (hp_k_isC C.pf e_14 ck_J1) (ct_J1_length Ev h_l45_10 n_l45_10 v_11 _ e_17) rfl rfl (Nat.le_of_ble_eq_true rfl) ⟨Nat.le_of_ble_eq_true rfl, Nat.le_of_ble_eq_true rfl, hb.c0, hb.s0⟩ dX12_makeAll_50 rb_xXi (rb_kXi fun hn_15 => (rb_w (kc := kc_l45_10) (ks := ks_l45_10) rfl rfl ?_))
            refine rb_icmp_ge (tgt := 86) C dX12_makeAll_53 (by decide) (fun c_18 => ?_) (fun c_18 => ?_)
            · have hf := (if_pos c_18).symm.trans hf
              refine rb_aload_n C dX12_makeAll_86 rfl 0 rfl ?_
              refine rb_iconst (v := 0) C dX12_makeAll_87 rfl ?_
              refine rb_iconst (v := 0) C dX12_makeAll_88 rfl ?_
              obtain ⟨u_19, e_20, hf⟩ := rb_bd hf
              obtain ⟨⟨r_22, h_23, k_24, s_25⟩, e_26, hf⟩ := rb_bd hf
              obtain ⟨a_29, b_30, hf, ea_27, eb_28⟩ := ad_at hf
              refine rb_callV (As := [.int 0, .int 0]) (rest := []) C mi_X12_make sv_X12_117 (hp_k_isC C.pf e_20 ck_X12) (ct_X12_make Ev h_l45_10 n_l45_10 30 o 0 0 r_22 _ _ _ e_26) rfl rfl (Nat.le_of_ble_eq_true rfl) ⟨Nat.le_of_ble_eq_true rfl, Nat.le_of_ble_eq_true rfl, Bd.c1 hb ea_27, Bd.s1 hb eb_28⟩ dX12_makeAll_89 rb_xX (rb_kX (rb_w (kc := (kc_l45_10 + k_24)) (ks := (ks_l45_10 + s_25)) rfl rfl ?_))
              have hb := Bd.ade hb ea_27 eb_28
              refine rb_aload_n C dX12_makeAll_92 rfl 0 rfl ?_
              cases hf
              exact rb_aret C rfl (Or.inl ⟨_, rfl⟩) (Or.inr ⟨_, rfl⟩) hb.e.2.1 hb.e.2.2 dX12_makeAll_93 ⟨rfl, rfl, hb.e.1⟩
            · have hf := (if_neg c_18).symm.trans hf
              refine rb_aload_n C dX12_makeAll_56 rfl 0 rfl ?_
              obtain ⟨v_31, e_32, hf⟩ := rb_bd hf
              refine rb_hP C fl_X12_31_X12 e_32 dX12_makeAll_57 ?_
              refine rb_iload_n C dX12_makeAll_60 rfl 1 rfl ?_
              refine rb_aload_n C dX12_makeAll_61 rfl 0 rfl ?_
              obtain ⟨v_33, e_34, hf⟩ := rb_bd hf
              refine rb_hP C fl_X12_3_X12 e_34 dX12_makeAll_62 ?_
              obtain ⟨v_35, e_36, hf⟩ := rb_bd hf
              refine rb_hP C fl_X12_47_X1 e_36 dX12_makeAll_65 ?_
              refine rb_aload_n C dX12_makeAll_68 rfl 0 rfl ?_
              obtain ⟨v_37, e_38, hf⟩ := rb_bd hf
              refine rb_hP C fl_X12_22_X12 e_38 dX12_makeAll_69 ?_
              refine rb_iload_n C dX12_makeAll_72 rfl 1 rfl ?_
              obtain ⟨u_39, e_40, hf⟩ := rb_bd hf
              obtain ⟨v_42, e_43, hf⟩ := rb_bd hf
              refine rb_callV (As := [.int y1_l45_10]) (rest := [.ref v_35, .int y1_l45_10, .ref v_31]) C mi_J1_charAt sv_X12_56 (hp_k_isC C.pf e_40 ck_J1) (ct_J1_charAt Ev h_l45_10 n_l45_10 v_37 y1_l45_10 _ e_43) rfl rfl (Nat.le_of_ble_eq_true rfl) ⟨Nat.le_of_ble_eq_true rfl, Nat.le_of_ble_eq_true rfl, hb.c0, hb.s0⟩ dX12_makeAll_73 rb_xXi (rb_kXi fun hn_41 => (rb_w (kc := kc_l45_10) (ks := ks_l45_10) rfl rfl ?_))
              obtain ⟨u_44, e_45, hf⟩ := rb_bd hf
              obtain ⟨⟨r_47, h_48, k_49, s_50⟩, e_51, hf⟩ := rb_bd hf
              obtain ⟨a_54, b_55, hf, ea_52, eb_53⟩ := ad_at hf
              rcases r_47 with v_56 | ⟨E_57, q_58⟩
              · dsimp only at hf
                refine rb_callV (As := [.int v_42]) (rest := [.int y1_l45_10, .ref v_31]) C mi_X2_meaningOf sv_X12_94 (hp_k_isC C.pf e_45 ck_X2) (ct_X2_meaningOf Ev h_l45_10 n_l45_10 v_35 v_42 (.inl v_56) _ _ _ e_51) rfl rfl (Nat.le_of_ble_eq_true rfl) ⟨Nat.le_of_ble_eq_true rfl, Nat.le_of_ble_eq_true rfl, Bd.c1 hb ea_52, Bd.s1 hb eb_53⟩ dX12_makeAll_76 rb_xX (rb_kX (r := some (.ref v_56)) (rb_w (kc := (kc_l45_10 + k_49)) (ks := (ks_l45_10 + s_50)) rfl rfl ?_))
                have hb := Bd.ade hb ea_52 eb_53
                obtain ⟨u_60, e_61, hf⟩ := rb_bd hf
                obtain ⟨h_59, e_62, hf⟩ := rb_bd hf
                refine rb_hasE C 7 rfl en_ok e_61 e_62 dX12_makeAll_79 ?_
                refine rb_iinc (v := (y1_l45_10 + 1)) (lv' := [(1, .int (y1_l45_10 + 1)), (0, .ref o)]) C dX12_makeAll_80 (k := 1) rfl rfl (by decide) rfl ?_
                refine rb_goto (tgt := 45) C dX12_makeAll_83 (by decide) ?_
                refine rb_sub [1, 0] rfl ?_
                exact ih_l45_10 (y1_l45_10 + 1) h_59 (n_l45_10 + k_49) _ _ _ _ hf hb
              · dsimp only at hf
                by_cases c_63 : E_57 = "java/lang/IllegalArgumentException"
                · have hf := (if_pos c_63).symm.trans hf
                  subst c_63
                  refine rb_callV (As := [.int v_42]) (rest := [.int y1_l45_10, .ref v_31]) C mi_X2_meaningOf sv_X12_94 (hp_k_isC C.pf e_45 ck_X2) (ct_X2_meaningOf Ev h_l45_10 n_l45_10 v_35 v_42 (.inr ("java/lang/IllegalArgumentException", q_58)) _ _ _ e_51) rfl rfl (Nat.le_of_ble_eq_true rfl) ⟨Nat.le_of_ble_eq_true rfl, Nat.le_of_ble_eq_true rfl, Bd.c1 hb ea_52, Bd.s1 hb eb_53⟩ dX12_makeAll_76 (rb_xY (E := "java/lang/IllegalArgumentException") (rb_wX (kc := (kc_l45_10 + k_49)) (ks := (ks_l45_10 + s_50)) rfl rfl ?_)) rb_kY
                  have hb := Bd.ade hb ea_52 eb_53
                  cases hf
                  exact rb_out C (fun _ z => absurd z List.not_mem_nil) hb.e.2.1 hb.e.2.2 ⟨rfl, rfl, hb.e.1⟩
                have hf := (if_neg c_63).symm.trans hf
                cases hf
        refine rb_sub [1, 0] rfl ?_
        exact L_l45_10 4096 0 h_l2_1 n_l2_1 _ _ _ _ hf hb
      · have hf := (if_neg c_9).symm.trans hf
        refine rb_aload_n C dX12_makeAll_13 rfl 0 rfl ?_
        obtain ⟨v_64, e_65, hf⟩ := rb_bd hf
        refine rb_hP C fl_X12_25_X12 e_65 dX12_makeAll_14 ?_
        refine rb_iload_n C dX12_makeAll_17 rfl 1 rfl ?_
        refine rb_aload_n C dX12_makeAll_18 rfl 0 rfl ?_
        obtain ⟨v_66, e_67, hf⟩ := rb_bd hf
        refine rb_hP C fl_X12_3_X12 e_67 dX12_makeAll_19 ?_
        obtain ⟨v_68, e_69, hf⟩ := rb_bd hf
        refine rb_hP C fl_X12_47_X1 e_69 dX12_makeAll_22 ?_
        refine rb_aload_n C dX12_makeAll_25 rfl 0 rfl ?_
        obtain ⟨v_70, e_71, hf⟩ := rb_bd hf
        refine rb_hP C fl_X12_18_X12 e_71 dX12_makeAll_26 ?_
        refine rb_iload_n C dX12_makeAll_29 rfl 1 rfl ?_
        obtain ⟨u_72, e_73, hf⟩ := rb_bd hf
        obtain ⟨v_75, e_76, hf⟩ := rb_bd hf
        refine rb_callV (As := [.int y1_l2_1]) (rest := [.ref v_68, .int y1_l2_1, .ref v_64]) C mi_J1_charAt sv_X12_56 (hp_k_isC C.pf e_73 ck_J1) (ct_J1_charAt Ev h_l2_1 n_l2_1 v_70 y1_l2_1 _ e_76) rfl rfl (Nat.le_of_ble_eq_true rfl) ⟨Nat.le_of_ble_eq_true rfl, Nat.le_of_ble_eq_true rfl, hb.c0, hb.s0⟩ dX12_makeAll_30 rb_xXi (rb_kXi fun hn_74 => (rb_w (kc := kc_l2_1) (ks := ks_l2_1) rfl rfl ?_))
        obtain ⟨u_77, e_78, hf⟩ := rb_bd hf
        obtain ⟨v_80, e_81, hf⟩ := rb_bd hf
        refine rb_callV (As := [.int v_75]) (rest := [.int y1_l2_1, .ref v_64]) C mi_X2_valueOf sv_X12_90 (hp_k_isC C.pf e_78 ck_X2) (ct_X2_valueOf Ev h_l2_1 n_l2_1 v_68 v_75 _ e_81) rfl rfl (Nat.le_of_ble_eq_true rfl) ⟨Nat.le_of_ble_eq_true rfl, Nat.le_of_ble_eq_true rfl, hb.c0, hb.s0⟩ dX12_makeAll_33 rb_xXi (rb_kXi fun hn_79 => (rb_w (kc := kc_l2_1) (ks := ks_l2_1) rfl rfl ?_))
        obtain ⟨h_82, e_83, hf⟩ := rb_bd hf
        refine rb_his C e_83 dX12_makeAll_36 ?_
        refine rb_iinc (v := (y1_l2_1 + 1)) (lv' := [(1, .int (y1_l2_1 + 1)), (0, .ref o)]) C dX12_makeAll_37 (k := 1) rfl rfl (by decide) rfl ?_
        refine rb_goto (tgt := 2) C dX12_makeAll_40 (by decide) ?_
        refine rb_sub [1, 0] rfl ?_
        exact ih_l2_1 (y1_l2_1 + 1) h_82 n_l2_1 _ _ _ _ hf hb
  refine rb_sub [1, 0] rfl ?_
  exact L_l2_1 4096 0 h n _ _ _ _ hf hb
def f_X1_bracketingsByMaking (Ev : rb_E) (h : AH) (n : Nat) (o : Nat) : Option ((Int64 ⊕ (String × Nat)) × AH × Nat × Nat) := (ad 1 7 (rb_lt (va_up h n (some (.inr (10, [.null, .null, .null, .null, .int 0, .long 0, .null])))) fun h_5 => ((f_X12_init Ev h_5 (n + 1) n o).bind fun (r_7, h_8, k_9, s_10) => (ad k_9 s_10 ((hp_k Ev h_8 n 10).bind fun u_16 => ((f_X12_makeAll Ev h_8 ((n + 1) + k_9) n).bind fun (r_19, h_20, k_21, s_22) => (ad k_21 s_22 (match r_19 with | .inl v_28 => ((hp_j Ev h_20 v_28 10 5).bind fun v_31 => (some (.inl v_31, h_20, 0, 0))) | .inr (E_29, q_30) => (if E_29 = "java/lang/IllegalArgumentException" then (some (.inr ("java/lang/IllegalArgumentException", q_30), h_20, 0, 0)) else none)))))))))
abbrev rm_X1_bracketingsByMaking (k s : Nat) : Room := { frames := 76, cells := k, slots := s, locals := 2890 }
set_option maxHeartbeats 4000000 in
theorem ct_X1_bracketingsByMaking (Ev : rb_E) (h : AH) (n : Nat) (o : Nat) (r : Int64 ⊕ (String × Nat)) (h' : AH) (k s : Nat) (hf : f_X1_bracketingsByMaking Ev h n o = some (r, h', k, s)) : Ct Ev yX1_bracketingsByMaking (ws_ yX1_bracketingsByMaking cX1_bracketingsByMaking 1 (some .long)) (rm_X1_bracketingsByMaking k s) [.ref o] h n (pX (rMap (fun v => some (.long v)) r) h' (n + k)) := by
  rw [f_X1_bracketingsByMaking] at hf
  refine Ct.of rfl (Nat.le_of_ble_eq_true rfl) fun X C hnm => ?_
  have C : Cx Ev X RX1 cX1_bracketingsByMaking 1 (some .long) [] := C
  show Wa Ev X (rm_X1_bracketingsByMaking k s) 1 h n 0 0 (rb_MQ Ev X (rm_X1_bracketingsByMaking k s) (pX (rMap (fun v => some (.long v)) r) h' (n + k))) 0 [(0, .ref o)] []
  have hb : Bd (n + k) k s n 0 0 k s := ⟨rfl, Nat.le_of_eq (Nat.zero_add _), Nat.le_of_eq (Nat.zero_add _)⟩
  obtain ⟨a_3, b_4, hf, ea_1, eb_2⟩ := ad_at hf
  refine rb_hnew C ck_X12 q1766 q1767 q108 [.null, .null, .null, .null, .int 0, .long 0, .null] rfl (Bd.c1 hb ea_1) (Bd.s1 hb eb_2) dX1_bracketingsByMaking_0 ?_
  have hb := Bd.ade hb ea_1 eb_2
  obtain ⟨h_5, e_h_5⟩ : ∃ z, z = (va_up h n (some (.inr (10, [.null, .null, .null, .null, .int 0, .long 0, .null])))) := ⟨_, rfl⟩
  rw [← e_h_5]
  have hf := rb_let hf e_h_5
  refine rb_dup C dX1_bracketingsByMaking_3 rfl ?_
  refine rb_aload_n C dX1_bracketingsByMaking_4 rfl 0 rfl ?_
  obtain ⟨⟨r_7, h_8, k_9, s_10⟩, e_11, hf⟩ := rb_bd hf
  obtain ⟨a_14, b_15, hf, ea_12, eb_13⟩ := ad_at hf
  refine rb_callI (As := [.ref o]) (rest := [.ref n]) C mi_X12_init si_X1_297 (ct_X12_init Ev h_5 (n + 1) n o r_7 _ _ _ e_11) rfl rfl (Nat.le_of_ble_eq_true rfl) ⟨Nat.le_of_ble_eq_true rfl, Nat.le_of_ble_eq_true rfl, Bd.c1 hb ea_12, Bd.s1 hb eb_13⟩ dX1_bracketingsByMaking_5 rb_xX (rb_kX (rb_w (kc := ((0 + 1) + k_9)) (ks := ((0 + 7) + s_10)) rfl rfl ?_))
  have hb := Bd.ade hb ea_12 eb_13
  obtain ⟨u_16, e_17, hf⟩ := rb_bd hf
  obtain ⟨⟨r_19, h_20, k_21, s_22⟩, e_23, hf⟩ := rb_bd hf
  obtain ⟨a_26, b_27, hf, ea_24, eb_25⟩ := ad_at hf
  rcases r_19 with v_28 | ⟨E_29, q_30⟩
  · dsimp only at hf
    refine rb_callV (As := []) (rest := []) C mi_X12_makeAll sv_X1_304 (hp_k_isC C.pf e_17 ck_X12) (ct_X12_makeAll Ev h_8 ((n + 1) + k_9) n (.inl v_28) _ _ _ e_23) rfl rfl (Nat.le_of_ble_eq_true rfl) ⟨Nat.le_of_ble_eq_true rfl, Nat.le_of_ble_eq_true rfl, Bd.c1 hb ea_24, Bd.s1 hb eb_25⟩ dX1_bracketingsByMaking_8 rb_xX (rb_kX (r := some (.ref v_28)) (rb_w (kc := (((0 + 1) + k_9) + k_21)) (ks := (((0 + 7) + s_10) + s_22)) rfl rfl ?_))
    have hb := Bd.ade hb ea_24 eb_25
    obtain ⟨v_31, e_32, hf⟩ := rb_bd hf
    refine rb_hJ C fl_X1_308_X12 e_32 dX1_bracketingsByMaking_11 ?_
    cases hf
    exact rb_lret C rfl hb.e.2.1 hb.e.2.2 dX1_bracketingsByMaking_14 ⟨rfl, rfl, hb.e.1⟩
  · dsimp only at hf
    by_cases c_33 : E_29 = "java/lang/IllegalArgumentException"
    · have hf := (if_pos c_33).symm.trans hf
      subst c_33
      refine rb_callV (As := []) (rest := []) C mi_X12_makeAll sv_X1_304 (hp_k_isC C.pf e_17 ck_X12) (ct_X12_makeAll Ev h_8 ((n + 1) + k_9) n (.inr ("java/lang/IllegalArgumentException", q_30)) _ _ _ e_23) rfl rfl (Nat.le_of_ble_eq_true rfl) ⟨Nat.le_of_ble_eq_true rfl, Nat.le_of_ble_eq_true rfl, Bd.c1 hb ea_24, Bd.s1 hb eb_25⟩ dX1_bracketingsByMaking_8 (rb_xY (E := "java/lang/IllegalArgumentException") (rb_wX (kc := (((0 + 1) + k_9) + k_21)) (ks := (((0 + 7) + s_10) + s_22)) rfl rfl ?_)) rb_kY
      have hb := Bd.ade hb ea_24 eb_25
      cases hf
      exact rb_out C (fun _ z => absurd z List.not_mem_nil) hb.e.2.1 hb.e.2.2 ⟨rfl, rfl, hb.e.1⟩
    have hf := (if_neg c_33).symm.trans hf
    cases hf
def f_X12_find_l131_50 (Ev : rb_E) (x1 : Nat) (v_35 : Nat) (y10_l92_42 : Int32) (rec_l92_42 : Int32 → AH → Nat → Option (Unit × AH × Nat × Nat)) (v_44 : Int32) (v_46 : Nat) (v_48 : Nat) : Nat → Int32 → AH → Nat → Option (Unit × AH × Nat × Nat)
  | 0, _, _, _ => none
  | k_l131_50 + 1, y14_l131_50, h_l131_50, n_l131_50 => (if (nI v_48) ≤ y14_l131_50 then (rec_l92_42 (y10_l92_42 + 1) h_l131_50 n_l131_50) else ((hp_il Ev h_l131_50 v_46 y14_l131_50).bind fun v_52 => ((hp_en Ev v_35).bind fun k_54 => ((hp_zs Ev h_l131_50 x1 (f_enap v_35 k_54 v_44 v_52) 1).bind fun h_56 => ((f_X12_find_l131_50 Ev x1 v_35 y10_l92_42 rec_l92_42 v_44 v_46 v_48 k_l131_50) (y14_l131_50 + 1) h_56 n_l131_50)))))
def f_X12_find_l92_42 (Ev : rb_E) (x1 : Nat) (x2 : Nat) (x3 : Int32) (x4 : Int32) (v_6 : Int32) (y6_l41_10 : Int32) (rec_l41_10 : Int32 → AH → Nat → Option (Unit × AH × Nat × Nat)) (v_35 : Nat) (v_38 : Nat) (v_40 : Nat) : Nat → Int32 → AH → Nat → Option (Unit × AH × Nat × Nat)
  | 0, _, _, _ => none
  | k_l92_42 + 1, y10_l92_42, h_l92_42, n_l92_42 => (if (nI v_40) ≤ y10_l92_42 then (rec_l41_10 (y6_l41_10 + 1) h_l92_42 n_l92_42) else ((hp_il Ev h_l92_42 v_38 y10_l92_42).bind fun v_44 => ((hp_ap Ev h_l92_42 8 x2 ((((x3 + y6_l41_10) * (v_6 + 1)) + x4) - y6_l41_10)).bind fun v_46 => ((hp_len Ev h_l92_42 v_46 0).bind fun v_48 => (f_X12_find_l131_50 Ev x1 v_35 y10_l92_42 (f_X12_find_l92_42 Ev x1 x2 x3 x4 v_6 y6_l41_10 rec_l41_10 v_35 v_38 v_40 k_l92_42) v_44 v_46 v_48 4096 0 h_l92_42 n_l92_42)))))
def f_X12_find_l41_10 (Ev : rb_E) (o : Nat) (x1 : Nat) (x2 : Nat) (x3 : Int32) (x4 : Int32) (v_6 : Int32) : Nat → Int32 → AH → Nat → Option (Unit × AH × Nat × Nat)
  | 0, _, _, _ => none
  | k_l41_10 + 1, y6_l41_10, h_l41_10, n_l41_10 => (if x4 ≤ y6_l41_10 then (some ((), h_l41_10, 0, 0)) else ((hp_p Ev h_l41_10 o 10 6).bind fun v_12 => ((hp_p Ev h_l41_10 v_12 0 0).bind fun v_14 => ((hp_p Ev h_l41_10 o 10 1).bind fun v_16 => ((hp_k Ev h_l41_10 v_16 13).bind fun u_18 => ((f_J1_charAt Ev h_l41_10 v_16 ((x3 + y6_l41_10) - 1)).bind fun v_21 => ((hp_k Ev h_l41_10 v_14 1).bind fun u_23 => ((f_X2_meaningOf Ev h_l41_10 n_l41_10 v_14 v_21).bind fun (r_26, h_27, k_28, s_29) => (ad k_28 s_29 (match r_26 with | .inl v_35 => ((hp_ap Ev h_27 8 x2 ((x3 * (v_6 + 1)) + y6_l41_10)).bind fun v_38 => ((hp_len Ev h_27 v_38 0).bind fun v_40 => (f_X12_find_l92_42 Ev x1 x2 x3 x4 v_6 y6_l41_10 (f_X12_find_l41_10 Ev o x1 x2 x3 x4 v_6 k_l41_10) v_35 v_38 v_40 4096 0 h_27 (n_l41_10 + k_28)))) | .inr (E_36, q_37) => (if E_36 = "java/lang/IllegalArgumentException" then none else none)))))))))))
def f_X12_find_j38_9 (Ev : rb_E) (o : Nat) (x1 : Nat) (x2 : Nat) (x3 : Int32) (x4 : Int32) (v_6 : Int32) (h_j38_9 : AH) (n_j38_9 : Nat) : Option (Unit × AH × Nat × Nat) := (f_X12_find_l41_10 Ev o x1 x2 x3 x4 v_6 4096 1 h_j38_9 n_j38_9)
def f_X12_find (Ev : rb_E) (h : AH) (n : Nat) (o : Nat) (x1 : Nat) (x2 : Nat) (x3 : Int32) (x4 : Int32) : Option (Unit × AH × Nat × Nat) := ((hp_p Ev h o 10 0).bind fun v_1 => ((hp_k Ev h v_1 13).bind fun u_3 => ((f_J1_length Ev h v_1).bind fun v_6 => (if x4 = 1 then ((hp_p Ev h o 10 6).bind fun v_59 => ((hp_p Ev h v_59 0 0).bind fun v_61 => ((hp_p Ev h o 10 0).bind fun v_63 => ((hp_k Ev h v_63 13).bind fun u_65 => ((f_J1_charAt Ev h v_63 x3).bind fun v_68 => ((hp_k Ev h v_61 1).bind fun u_70 => ((f_X2_valueOf Ev h v_61 v_68).bind fun v_73 => ((hp_zs Ev h x1 v_73 1).bind fun h_75 => (f_X12_find_j38_9 Ev o x1 x2 x3 x4 v_6 h_75 n))))))))) else (f_X12_find_j38_9 Ev o x1 x2 x3 x4 v_6 h n)))))
abbrev rm_X12_find (k s : Nat) : Room := { frames := 9, cells := k, slots := s, locals := 202 }
set_option maxHeartbeats 4000000 in
theorem ct_X12_find (Ev : rb_E) (h : AH) (n : Nat) (o : Nat) (x1 : Nat) (x2 : Nat) (x3 : Int32) (x4 : Int32) (r : Unit) (h' : AH) (k s : Nat) (hf : f_X12_find Ev h n o x1 x2 x3 x4 = some (r, h', k, s)) : Ct Ev yX12_find (ws_ yX12_find cX12_find 16 none) (rm_X12_find k s) [.ref o, .ref x1, .ref x2, .int x3, .int x4] h n (pX (.inl (none)) h' (n + k)) := by
  rw [f_X12_find] at hf
  refine Ct.of rfl (Nat.le_of_ble_eq_true rfl) fun X C hnm => ?_
  have C : Cx Ev X RX12 cX12_find 16 none [] := C
  show Wa Ev X (rm_X12_find k s) 16 h n 0 0 (rb_MQ Ev X (rm_X12_find k s) (pX (.inl (none)) h' (n + k))) 0 [(0, .ref o), (1, .ref x1), (2, .ref x2), (3, .int x3), (4, .int x4)] []
  have hb : Bd (n + k) k s n 0 0 k s := ⟨rfl, Nat.le_of_eq (Nat.zero_add _), Nat.le_of_eq (Nat.zero_add _)⟩
  refine rb_aload_n C dX12_find_0 rfl 0 rfl ?_
  obtain ⟨v_1, e_2, hf⟩ := rb_bd hf
  refine rb_hP C fl_X12_18_X12 e_2 dX12_find_1 ?_
  obtain ⟨u_3, e_4, hf⟩ := rb_bd hf
  obtain ⟨v_6, e_7, hf⟩ := rb_bd hf
  refine rb_callV (As := []) (rest := []) C mi_J1_length sv_X12_80 (hp_k_isC C.pf e_4 ck_J1) (ct_J1_length Ev h n v_1 _ e_7) rfl rfl (Nat.le_of_ble_eq_true rfl) ⟨Nat.le_of_ble_eq_true rfl, Nat.le_of_ble_eq_true rfl, hb.c0, hb.s0⟩ dX12_find_4 rb_xXi (rb_kXi fun hn_5 => (rb_w (kc := 0) (ks := 0) rfl rfl ?_))
  refine rb_iconst (v := 1) C dX12_find_7 rfl ?_
  refine rb_iadd C dX12_find_8 ?_
  refine rb_istore (lv' := [(5, .int (v_6 + 1)), (0, .ref o), (1, .ref x1), (2, .ref x2), (3, .int x3), (4, .int x4)]) C dX12_find_9 (by decide) rfl ?_
  refine rb_iload C dX12_find_11 5 rfl ?_
  refine rb_iconst (v := 1) C dX12_find_13 rfl ?_
  have J_j38_9 : ∀ (h_j38_9 : AH) (n_j38_9 : Nat) (kc_j38_9 ks_j38_9 a_ b_ : Nat), f_X12_find_j38_9 Ev o x1 x2 x3 x4 v_6 h_j38_9 n_j38_9 = some (r, h', a_, b_) → Bd (n + k) k s n_j38_9 kc_j38_9 ks_j38_9 a_ b_ → Wa Ev X (rm_X12_find k s) 16 h_j38_9 n_j38_9 kc_j38_9 ks_j38_9 (rb_MQ Ev X (rm_X12_find k s) (pX (.inl (none)) h' (n + k))) 38 [(0, .ref o), (1, .ref x1), (2, .ref x2), (3, .int x3), (4, .int x4), (5, .int (v_6 + 1))] [] := by
    intro h_j38_9 n_j38_9 kc_j38_9 ks_j38_9 a_ b_ hf hb
    rw [f_X12_find_j38_9] at hf
    refine rb_iconst (v := 1) C dX12_find_38 rfl ?_
    refine rb_istore (lv' := [(6, .int 1), (0, .ref o), (1, .ref x1), (2, .ref x2), (3, .int x3), (4, .int x4), (5, .int (v_6 + 1))]) C dX12_find_39 (by decide) rfl ?_
    have L_l41_10 : ∀ (k_l41_10 : Nat) (y6_l41_10 : Int32) (h_l41_10 : AH) (n_l41_10 kc_l41_10 ks_l41_10 a_ b_ : Nat), f_X12_find_l41_10 Ev o x1 x2 x3 x4 v_6 k_l41_10 y6_l41_10 h_l41_10 n_l41_10 = some (r, h', a_, b_) → Bd (n + k) k s n_l41_10 kc_l41_10 ks_l41_10 a_ b_ → Wa Ev X (rm_X12_find k s) 16 h_l41_10 n_l41_10 kc_l41_10 ks_l41_10 (rb_MQ Ev X (rm_X12_find k s) (pX (.inl (none)) h' (n + k))) 41 [(0, .ref o), (1, .ref x1), (2, .ref x2), (3, .int x3), (4, .int x4), (5, .int (v_6 + 1)), (6, .int y6_l41_10)] [] := by
      intro k_l41_10
      induction k_l41_10 with
      | zero => intro y6_l41_10 h_l41_10 n_l41_10 kc_l41_10 ks_l41_10 a_ b_ hf hb; cases hf
      | succ k_l41_10 ih_l41_10 =>
        intro y6_l41_10 h_l41_10 n_l41_10 kc_l41_10 ks_l41_10 a_ b_ hf hb
        rw [f_X12_find_l41_10] at hf
        refine rb_iload C dX12_find_41 6 rfl ?_
        refine rb_iload C dX12_find_43 4 rfl ?_
        refine rb_icmp_ge (tgt := 175) C dX12_find_45 (by decide) (fun c_11 => ?_) (fun c_11 => ?_)
        · have hf := (if_pos c_11).symm.trans hf
          cases hf
          exact rb_vret C rfl hb.e.2.1 hb.e.2.2 dX12_find_175 ⟨rfl, rfl, hb.e.1⟩
        · have hf := (if_neg c_11).symm.trans hf
          refine rb_aload_n C dX12_find_48 rfl 0 rfl ?_
          obtain ⟨v_12, e_13, hf⟩ := rb_bd hf
          refine rb_hP C fl_X12_3_X12 e_13 dX12_find_49 ?_
          obtain ⟨v_14, e_15, hf⟩ := rb_bd hf
          refine rb_hP C fl_X12_47_X1 e_15 dX12_find_52 ?_
          refine rb_aload_n C dX12_find_55 rfl 0 rfl ?_
          obtain ⟨v_16, e_17, hf⟩ := rb_bd hf
          refine rb_hP C fl_X12_22_X12 e_17 dX12_find_56 ?_
          refine rb_iload_n C dX12_find_59 rfl 3 rfl ?_
          refine rb_iload C dX12_find_60 6 rfl ?_
          refine rb_iadd C dX12_find_62 ?_
          refine rb_iconst (v := 1) C dX12_find_63 rfl ?_
          refine rb_isub C dX12_find_64 ?_
          obtain ⟨u_18, e_19, hf⟩ := rb_bd hf
          obtain ⟨v_21, e_22, hf⟩ := rb_bd hf
          refine rb_callV (As := [.int ((x3 + y6_l41_10) - 1)]) (rest := [.ref v_14]) C mi_J1_charAt sv_X12_56 (hp_k_isC C.pf e_19 ck_J1) (ct_J1_charAt Ev h_l41_10 n_l41_10 v_16 ((x3 + y6_l41_10) - 1) _ e_22) rfl rfl (Nat.le_of_ble_eq_true rfl) ⟨Nat.le_of_ble_eq_true rfl, Nat.le_of_ble_eq_true rfl, hb.c0, hb.s0⟩ dX12_find_65 rb_xXi (rb_kXi fun hn_20 => (rb_w (kc := kc_l41_10) (ks := ks_l41_10) rfl rfl ?_))
          obtain ⟨u_23, e_24, hf⟩ := rb_bd hf
          obtain ⟨⟨r_26, h_27, k_28, s_29⟩, e_30, hf⟩ := rb_bd hf
          obtain ⟨a_33, b_34, hf, ea_31, eb_32⟩ := ad_at hf
          rcases r_26 with v_35 | ⟨E_36, q_37⟩
          · dsimp only at hf
            refine rb_callV (As := [.int v_21]) (rest := []) C mi_X2_meaningOf sv_X12_94 (hp_k_isC C.pf e_24 ck_X2) (ct_X2_meaningOf Ev h_l41_10 n_l41_10 v_14 v_21 (.inl v_35) _ _ _ e_30) rfl rfl (Nat.le_of_ble_eq_true rfl) ⟨Nat.le_of_ble_eq_true rfl, Nat.le_of_ble_eq_true rfl, Bd.c1 hb ea_31, Bd.s1 hb eb_32⟩ dX12_find_68 rb_xX (rb_kX (r := some (.ref v_35)) (rb_w (kc := (kc_l41_10 + k_28)) (ks := (ks_l41_10 + s_29)) rfl rfl ?_))
            have hb := Bd.ade hb ea_31 eb_32
            refine rb_astore (lv' := [(7, .ref v_35), (0, .ref o), (1, .ref x1), (2, .ref x2), (3, .int x3), (4, .int x4), (5, .int (v_6 + 1)), (6, .int y6_l41_10)]) C dX12_find_71 (by decide) rfl ?_
            refine rb_aload_n C dX12_find_73 rfl 3 rfl ?_
            refine rb_iload_n C dX12_find_74 rfl 4 rfl ?_
            refine rb_iload C dX12_find_75 6 rfl ?_
            refine rb_imul C dX12_find_77 ?_
            refine rb_iload C dX12_find_78 7 rfl ?_
            refine rb_iadd C dX12_find_80 ?_
            obtain ⟨v_38, e_39, hf⟩ := rb_bd hf
            refine rb_hap C 8 rfl rfl e_39 dX12_find_81 ?_
            refine rb_astore (lv' := [(8, .ref v_38), (7, .ref v_35), (0, .ref o), (1, .ref x1), (2, .ref x2), (3, .int x3), (4, .int x4), (5, .int (v_6 + 1)), (6, .int y6_l41_10)]) C dX12_find_82 (by decide) rfl ?_
            refine rb_aload C dX12_find_84 0 rfl ?_
            obtain ⟨v_40, e_41, hf⟩ := rb_bd hf
            refine rb_hlen (t := 0) C rfl e_41 dX12_find_86 ?_
            refine rb_istore (lv' := [(9, .int (nI v_40)), (8, .ref v_38), (7, .ref v_35), (0, .ref o), (1, .ref x1), (2, .ref x2), (3, .int x3), (4, .int x4), (5, .int (v_6 + 1)), (6, .int y6_l41_10)]) C dX12_find_87 (by decide) rfl ?_
            refine rb_iconst (v := 0) C dX12_find_89 rfl ?_
            refine rb_istore (lv' := [(10, .int 0), (9, .int (nI v_40)), (8, .ref v_38), (7, .ref v_35), (0, .ref o), (1, .ref x1), (2, .ref x2), (3, .int x3), (4, .int x4), (5, .int (v_6 + 1)), (6, .int y6_l41_10)]) C dX12_find_90 (by decide) rfl ?_
            have L_l92_42 : ∀ (k_l92_42 : Nat) (y10_l92_42 : Int32) (h_l92_42 : AH) (n_l92_42 kc_l92_42 ks_l92_42 a_ b_ : Nat), f_X12_find_l92_42 Ev x1 x2 x3 x4 v_6 y6_l41_10 (f_X12_find_l41_10 Ev o x1 x2 x3 x4 v_6 k_l41_10) v_35 v_38 v_40 k_l92_42 y10_l92_42 h_l92_42 n_l92_42 = some (r, h', a_, b_) → Bd (n + k) k s n_l92_42 kc_l92_42 ks_l92_42 a_ b_ → Wa Ev X (rm_X12_find k s) 16 h_l92_42 n_l92_42 kc_l92_42 ks_l92_42 (rb_MQ Ev X (rm_X12_find k s) (pX (.inl (none)) h' (n + k))) 92 [(0, .ref o), (1, .ref x1), (2, .ref x2), (3, .int x3), (4, .int x4), (5, .int (v_6 + 1)), (6, .int y6_l41_10), (7, .ref v_35), (8, .ref v_38), (9, .int (nI v_40)), (10, .int y10_l92_42)] [] := by
              intro k_l92_42
              induction k_l92_42 with
              | zero => intro y10_l92_42 h_l92_42 n_l92_42 kc_l92_42 ks_l92_42 a_ b_ hf hb; cases hf
              | succ k_l92_42 ih_l92_42 =>
                intro y10_l92_42 h_l92_42 n_l92_42 kc_l92_42 ks_l92_42 a_ b_ hf hb
                rw [f_X12_find_l92_42] at hf
                refine rb_iload C dX12_find_92 10 rfl ?_
                refine rb_iload C dX12_find_94 9 rfl ?_
                refine rb_icmp_ge (tgt := 169) C dX12_find_96 (by decide) (fun c_43 => ?_) (fun c_43 => ?_)
                · have hf := (if_pos c_43).symm.trans hf
                  refine rb_iinc (v := (y6_l41_10 + 1)) (lv' := [(6, .int (y6_l41_10 + 1)), (0, .ref o), (1, .ref x1), (2, .ref x2), (3, .int x3), (4, .int x4), (5, .int (v_6 + 1)), (7, .ref v_35), (8, .ref v_38), (9, .int (nI v_40)), (10, .int y10_l92_42)]) C dX12_find_169 (k := 6) rfl rfl (by decide) rfl ?_
                  refine rb_goto (tgt := 41) C dX12_find_172 (by decide) ?_
                  refine rb_sub [1, 2, 3, 4, 5, 6, 0] rfl ?_
                  exact ih_l41_10 (y6_l41_10 + 1) h_l92_42 n_l92_42 _ _ _ _ hf hb
                · have hf := (if_neg c_43).symm.trans hf
                  refine rb_aload C dX12_find_99 8 rfl ?_
                  refine rb_iload C dX12_find_101 10 rfl ?_
                  obtain ⟨v_44, e_45, hf⟩ := rb_bd hf
                  refine rb_hil C e_45 dX12_find_103 ?_
                  refine rb_istore (lv' := [(11, .int v_44), (0, .ref o), (1, .ref x1), (2, .ref x2), (3, .int x3), (4, .int x4), (5, .int (v_6 + 1)), (6, .int y6_l41_10), (7, .ref v_35), (8, .ref v_38), (9, .int (nI v_40)), (10, .int y10_l92_42)]) C dX12_find_104 (by decide) rfl ?_
                  refine rb_aload_n C dX12_find_106 rfl 3 rfl ?_
                  refine rb_iload_n C dX12_find_107 rfl 4 rfl ?_
                  refine rb_iload C dX12_find_108 7 rfl ?_
                  refine rb_iadd C dX12_find_110 ?_
                  refine rb_iload C dX12_find_111 6 rfl ?_
                  refine rb_imul C dX12_find_113 ?_
                  refine rb_iload C dX12_find_114 5 rfl ?_
                  refine rb_iadd C dX12_find_116 ?_
                  refine rb_iload C dX12_find_117 7 rfl ?_
                  refine rb_isub C dX12_find_119 ?_
                  obtain ⟨v_46, e_47, hf⟩ := rb_bd hf
                  refine rb_hap C 8 rfl rfl e_47 dX12_find_120 ?_
                  refine rb_astore (lv' := [(12, .ref v_46), (11, .int v_44), (0, .ref o), (1, .ref x1), (2, .ref x2), (3, .int x3), (4, .int x4), (5, .int (v_6 + 1)), (6, .int y6_l41_10), (7, .ref v_35), (8, .ref v_38), (9, .int (nI v_40)), (10, .int y10_l92_42)]) C dX12_find_121 (by decide) rfl ?_
                  refine rb_aload C dX12_find_123 0 rfl ?_
                  obtain ⟨v_48, e_49, hf⟩ := rb_bd hf
                  refine rb_hlen (t := 0) C rfl e_49 dX12_find_125 ?_
                  refine rb_istore (lv' := [(13, .int (nI v_48)), (12, .ref v_46), (11, .int v_44), (0, .ref o), (1, .ref x1), (2, .ref x2), (3, .int x3), (4, .int x4), (5, .int (v_6 + 1)), (6, .int y6_l41_10), (7, .ref v_35), (8, .ref v_38), (9, .int (nI v_40)), (10, .int y10_l92_42)]) C dX12_find_126 (by decide) rfl ?_
                  refine rb_iconst (v := 0) C dX12_find_128 rfl ?_
                  refine rb_istore (lv' := [(14, .int 0), (13, .int (nI v_48)), (12, .ref v_46), (11, .int v_44), (0, .ref o), (1, .ref x1), (2, .ref x2), (3, .int x3), (4, .int x4), (5, .int (v_6 + 1)), (6, .int y6_l41_10), (7, .ref v_35), (8, .ref v_38), (9, .int (nI v_40)), (10, .int y10_l92_42)]) C dX12_find_129 (by decide) rfl ?_
                  have L_l131_50 : ∀ (k_l131_50 : Nat) (y14_l131_50 : Int32) (h_l131_50 : AH) (n_l131_50 kc_l131_50 ks_l131_50 a_ b_ : Nat), f_X12_find_l131_50 Ev x1 v_35 y10_l92_42 (f_X12_find_l92_42 Ev x1 x2 x3 x4 v_6 y6_l41_10 (f_X12_find_l41_10 Ev o x1 x2 x3 x4 v_6 k_l41_10) v_35 v_38 v_40 k_l92_42) v_44 v_46 v_48 k_l131_50 y14_l131_50 h_l131_50 n_l131_50 = some (r, h', a_, b_) → Bd (n + k) k s n_l131_50 kc_l131_50 ks_l131_50 a_ b_ → Wa Ev X (rm_X12_find k s) 16 h_l131_50 n_l131_50 kc_l131_50 ks_l131_50 (rb_MQ Ev X (rm_X12_find k s) (pX (.inl (none)) h' (n + k))) 131 [(0, .ref o), (1, .ref x1), (2, .ref x2), (3, .int x3), (4, .int x4), (5, .int (v_6 + 1)), (6, .int y6_l41_10), (7, .ref v_35), (8, .ref v_38), (9, .int (nI v_40)), (10, .int y10_l92_42), (11, .int v_44), (12, .ref v_46), (13, .int (nI v_48)), (14, .int y14_l131_50)] [] := by
                    intro k_l131_50
                    induction k_l131_50 with
                    | zero => intro y14_l131_50 h_l131_50 n_l131_50 kc_l131_50 ks_l131_50 a_ b_ hf hb; cases hf
                    | succ k_l131_50 ih_l131_50 =>
                      intro y14_l131_50 h_l131_50 n_l131_50 kc_l131_50 ks_l131_50 a_ b_ hf hb
                      rw [f_X12_find_l131_50] at hf
                      refine rb_iload C dX12_find_131 14 rfl ?_
                      refine rb_iload C dX12_find_133 13 rfl ?_
                      refine rb_icmp_ge (tgt := 163) C dX12_find_135 (by decide) (fun c_51 => ?_) (fun c_51 => ?_)
                      · have hf := (if_pos c_51).symm.trans hf
                        refine rb_iinc (v := (y10_l92_42 + 1)) (lv' := [(10, .int (y10_l92_42 + 1)), (0, .ref o), (1, .ref x1), (2, .ref x2), (3, .int x3), (4, .int x4), (5, .int (v_6 + 1)), (6, .int y6_l41_10), (7, .ref v_35), (8, .ref v_38), (9, .int (nI v_40)), (11, .int v_44), (12, .ref v_46), (13, .int (nI v_48)), (14, .int y14_l131_50)]) C dX12_find_163 (k := 10) rfl rfl (by decide) rfl ?_
                        refine rb_goto (tgt := 92) C dX12_find_166 (by decide) ?_
                        refine rb_sub [1, 2, 3, 4, 5, 6, 7, 8, 9, 10, 0] rfl ?_
                        exact ih_l92_42 (y10_l92_42 + 1) h_l131_50 n_l131_50 _ _ _ _ hf hb
                      · have hf := (if_neg c_51).symm.trans hf
                        refine rb_aload C dX12_find_138 12 rfl ?_
                        refine rb_iload C dX12_find_140 14 rfl ?_
                        obtain ⟨v_52, e_53, hf⟩ := rb_bd hf
                        refine rb_hil C e_53 dX12_find_142 ?_
                        refine rb_istore (lv' := [(15, .int v_52), (0, .ref o), (1, .ref x1), (2, .ref x2), (3, .int x3), (4, .int x4), (5, .int (v_6 + 1)), (6, .int y6_l41_10), (7, .ref v_35), (8, .ref v_38), (9, .int (nI v_40)), (10, .int y10_l92_42), (11, .int v_44), (12, .ref v_46), (13, .int (nI v_48)), (14, .int y14_l131_50)]) C dX12_find_143 (by decide) rfl ?_
                        refine rb_aload_n C dX12_find_145 rfl 2 rfl ?_
                        refine rb_aload C dX12_find_146 8 rfl ?_
                        refine rb_iload C dX12_find_148 12 rfl ?_
                        refine rb_iload C dX12_find_150 0 rfl ?_
                        obtain ⟨k_54, e_55, hf⟩ := rb_bd hf
                        suffices kk_ap : Wa Ev X (rm_X12_find k s) 16 h_l131_50 n_l131_50 kc_l131_50 ks_l131_50 (rb_MQ Ev X (rm_X12_find k s) (pX (.inl (none)) h' (n + k))) 155 [(15, .int v_52), (0, .ref o), (1, .ref x1), (2, .ref x2), (3, .int x3), (4, .int x4), (5, .int (v_6 + 1)), (6, .int y6_l41_10), (7, .ref v_35), (8, .ref v_38), (9, .int (nI v_40)), (10, .int y10_l92_42), (11, .int v_44), (12, .ref v_46), (13, .int (nI v_48)), (14, .int y14_l131_50)] [.int (f_enap v_35 k_54 v_44 v_52), .ref x1] by
                          obtain ⟨g1_ap, g2_ap⟩ := hp_en_at e_55
                          rcases (show k_54 = 0 ∨ k_54 = 1 ∨ k_54 = 2 ∨ k_54 = 3 ∨ k_54 = 4 ∨ k_54 = 5 by omega) with rfl | rfl | rfl | rfl | rfl | rfl
                          · exact rb_callVOR (As := [.int v_44, .int v_52]) (rest := [.ref x1]) C mr_X15_apply so_X12_98_X15_apply (hp_en_isC e_55) (ct_X15_apply Ev h_l131_50 n_l131_50 v_35 v_44 v_52 (f_enap v_35 0 v_44 v_52) rfl) rfl rfl (Nat.le_of_ble_eq_true rfl) ⟨Nat.le_of_ble_eq_true rfl, Nat.le_of_ble_eq_true rfl, hb.c0, hb.s0⟩ dX12_find_152 rb_xXi (rb_kXi fun _ => rb_w (kc := kc_l131_50) (ks := ks_l131_50) rfl rfl kk_ap)
                          · exact rb_callVOR (As := [.int v_44, .int v_52]) (rest := [.ref x1]) C mr_X16_apply so_X12_98_X16_apply (hp_en_isC e_55) (ct_X16_apply Ev h_l131_50 n_l131_50 v_35 v_44 v_52 (f_enap v_35 1 v_44 v_52) rfl) rfl rfl (Nat.le_of_ble_eq_true rfl) ⟨Nat.le_of_ble_eq_true rfl, Nat.le_of_ble_eq_true rfl, hb.c0, hb.s0⟩ dX12_find_152 rb_xXi (rb_kXi fun _ => rb_w (kc := kc_l131_50) (ks := ks_l131_50) rfl rfl kk_ap)
                          · exact rb_callVOR (As := [.int v_44, .int v_52]) (rest := [.ref x1]) C mr_X17_apply so_X12_98_X17_apply (hp_en_isC e_55) (ct_X17_apply Ev h_l131_50 n_l131_50 v_35 v_44 v_52 (f_enap v_35 2 v_44 v_52) rfl) rfl rfl (Nat.le_of_ble_eq_true rfl) ⟨Nat.le_of_ble_eq_true rfl, Nat.le_of_ble_eq_true rfl, hb.c0, hb.s0⟩ dX12_find_152 rb_xXi (rb_kXi fun _ => rb_w (kc := kc_l131_50) (ks := ks_l131_50) rfl rfl kk_ap)
                          · exact rb_callVOR (As := [.int v_44, .int v_52]) (rest := [.ref x1]) C mr_X18_apply so_X12_98_X18_apply (hp_en_isC e_55) (ct_X18_apply Ev h_l131_50 n_l131_50 v_35 v_44 v_52 (f_enap v_35 3 v_44 v_52) rfl) rfl rfl (Nat.le_of_ble_eq_true rfl) ⟨Nat.le_of_ble_eq_true rfl, Nat.le_of_ble_eq_true rfl, hb.c0, hb.s0⟩ dX12_find_152 rb_xXi (rb_kXi fun _ => rb_w (kc := kc_l131_50) (ks := ks_l131_50) rfl rfl kk_ap)
                          · exact rb_callVOR (As := [.int v_44, .int v_52]) (rest := [.ref x1]) C mr_X19_apply so_X12_98_X19_apply (hp_en_isC e_55) (ct_X19_apply Ev h_l131_50 n_l131_50 v_35 v_44 v_52 (f_enap v_35 4 v_44 v_52) rfl) rfl rfl (Nat.le_of_ble_eq_true rfl) ⟨Nat.le_of_ble_eq_true rfl, Nat.le_of_ble_eq_true rfl, hb.c0, hb.s0⟩ dX12_find_152 rb_xXi (rb_kXi fun _ => rb_w (kc := kc_l131_50) (ks := ks_l131_50) rfl rfl kk_ap)
                          · exact rb_callVOR (As := [.int v_44, .int v_52]) (rest := [.ref x1]) C mr_X20_apply so_X12_98_X20_apply (hp_en_isC e_55) (ct_X20_apply Ev h_l131_50 n_l131_50 v_35 v_44 v_52 (f_enap v_35 5 v_44 v_52) rfl) rfl rfl (Nat.le_of_ble_eq_true rfl) ⟨Nat.le_of_ble_eq_true rfl, Nat.le_of_ble_eq_true rfl, hb.c0, hb.s0⟩ dX12_find_152 rb_xXi (rb_kXi fun _ => rb_w (kc := kc_l131_50) (ks := ks_l131_50) rfl rfl kk_ap)
                        refine rb_iconst (v := 1) C dX12_find_155 rfl ?_
                        obtain ⟨h_56, e_57, hf⟩ := rb_bd hf
                        refine rb_hzs C e_57 dX12_find_156 ?_
                        refine rb_iinc (v := (y14_l131_50 + 1)) (lv' := [(14, .int (y14_l131_50 + 1)), (15, .int v_52), (0, .ref o), (1, .ref x1), (2, .ref x2), (3, .int x3), (4, .int x4), (5, .int (v_6 + 1)), (6, .int y6_l41_10), (7, .ref v_35), (8, .ref v_38), (9, .int (nI v_40)), (10, .int y10_l92_42), (11, .int v_44), (12, .ref v_46), (13, .int (nI v_48))]) C dX12_find_157 (k := 15) rfl rfl (by decide) rfl ?_
                        refine rb_goto (tgt := 131) C dX12_find_160 (by decide) ?_
                        refine rb_sub [2, 3, 4, 5, 6, 7, 8, 9, 10, 11, 12, 13, 14, 15, 0] rfl ?_
                        exact ih_l131_50 (y14_l131_50 + 1) h_56 n_l131_50 _ _ _ _ hf hb
                  refine rb_sub [4, 5, 6, 7, 8, 9, 10, 11, 12, 13, 14, 3, 2, 1, 0] rfl ?_
                  exact L_l131_50 4096 0 h_l92_42 n_l92_42 _ _ _ _ hf hb
            refine rb_sub [4, 5, 6, 7, 8, 9, 10, 3, 2, 1, 0] rfl ?_
            exact L_l92_42 4096 0 h_27 (n_l41_10 + k_28) _ _ _ _ hf hb
          · dsimp only at hf
            by_cases c_58 : E_36 = "java/lang/IllegalArgumentException"
            · have hf := (if_pos c_58).symm.trans hf
              subst c_58
              refine rb_callV (As := [.int v_21]) (rest := []) C mi_X2_meaningOf sv_X12_94 (hp_k_isC C.pf e_24 ck_X2) (ct_X2_meaningOf Ev h_l41_10 n_l41_10 v_14 v_21 (.inr ("java/lang/IllegalArgumentException", q_37)) _ _ _ e_30) rfl rfl (Nat.le_of_ble_eq_true rfl) ⟨Nat.le_of_ble_eq_true rfl, Nat.le_of_ble_eq_true rfl, Bd.c1 hb ea_31, Bd.s1 hb eb_32⟩ dX12_find_68 (rb_xY (E := "java/lang/IllegalArgumentException") (rb_wX (kc := (kc_l41_10 + k_28)) (ks := (ks_l41_10 + s_29)) rfl rfl ?_)) rb_kY
              have hb := Bd.ade hb ea_31 eb_32
              cases hf
            have hf := (if_neg c_58).symm.trans hf
            cases hf
    refine rb_sub [1, 2, 3, 4, 5, 6, 0] rfl ?_
    exact L_l41_10 4096 1 h_j38_9 n_j38_9 _ _ _ _ hf hb
  refine rb_icmp_ne (tgt := 38) C dX12_find_14 (by decide) (fun c_8 => ?_) (fun c_8 => ?_)
  · have hf := (if_neg c_8).symm.trans hf
    refine rb_sub [1, 2, 3, 4, 5, 0] rfl ?_
    exact J_j38_9 h n  _ _ _ _ hf hb
  · have hf := (if_pos c_8).symm.trans hf
    refine rb_aload_n C dX12_find_17 rfl 2 rfl ?_
    refine rb_aload_n C dX12_find_18 rfl 1 rfl ?_
    obtain ⟨v_59, e_60, hf⟩ := rb_bd hf
    refine rb_hP C fl_X12_3_X12 e_60 dX12_find_19 ?_
    obtain ⟨v_61, e_62, hf⟩ := rb_bd hf
    refine rb_hP C fl_X12_47_X1 e_62 dX12_find_22 ?_
    refine rb_aload_n C dX12_find_25 rfl 1 rfl ?_
    obtain ⟨v_63, e_64, hf⟩ := rb_bd hf
    refine rb_hP C fl_X12_18_X12 e_64 dX12_find_26 ?_
    refine rb_iload_n C dX12_find_29 rfl 4 rfl ?_
    obtain ⟨u_65, e_66, hf⟩ := rb_bd hf
    obtain ⟨v_68, e_69, hf⟩ := rb_bd hf
    refine rb_callV (As := [.int x3]) (rest := [.ref v_61, .ref x1]) C mi_J1_charAt sv_X12_56 (hp_k_isC C.pf e_66 ck_J1) (ct_J1_charAt Ev h n v_63 x3 _ e_69) rfl rfl (Nat.le_of_ble_eq_true rfl) ⟨Nat.le_of_ble_eq_true rfl, Nat.le_of_ble_eq_true rfl, hb.c0, hb.s0⟩ dX12_find_30 rb_xXi (rb_kXi fun hn_67 => (rb_w (kc := 0) (ks := 0) rfl rfl ?_))
    obtain ⟨u_70, e_71, hf⟩ := rb_bd hf
    obtain ⟨v_73, e_74, hf⟩ := rb_bd hf
    refine rb_callV (As := [.int v_68]) (rest := [.ref x1]) C mi_X2_valueOf sv_X12_90 (hp_k_isC C.pf e_71 ck_X2) (ct_X2_valueOf Ev h n v_61 v_68 _ e_74) rfl rfl (Nat.le_of_ble_eq_true rfl) ⟨Nat.le_of_ble_eq_true rfl, Nat.le_of_ble_eq_true rfl, hb.c0, hb.s0⟩ dX12_find_33 rb_xXi (rb_kXi fun hn_72 => (rb_w (kc := 0) (ks := 0) rfl rfl ?_))
    refine rb_iconst (v := 1) C dX12_find_36 rfl ?_
    obtain ⟨h_75, e_76, hf⟩ := rb_bd hf
    refine rb_hzs C e_76 dX12_find_37 ?_
    refine rb_sub [1, 2, 3, 4, 5, 0] rfl ?_
    exact J_j38_9 h_75 n  _ _ _ _ hf hb
def f_X12_listed_j33_22 (Ev : rb_E) (x0 : Nat) (y2_l10_7 : Int32) (y3_l10_7 : Int32) (n_l10_7 : Nat) (rec_l10_7 : Int32 → Int32 → AH → Nat → Option (Nat × AH × Nat × Nat)) (h_17 : AH) (w0_j33_22 : Int32) : Option (Nat × AH × Nat × Nat) := ((hp_zs Ev h_17 x0 y3_l10_7 0).bind fun h_23 => (rec_l10_7 (y2_l10_7 + w0_j33_22) (y3_l10_7 + 1) h_23 n_l10_7))
def f_X12_listed_l10_7 (Ev : rb_E) (x0 : Nat) (n : Nat) : Nat → Int32 → Int32 → AH → Nat → Option (Nat × AH × Nat × Nat)
  | 0, _, _, _, _ => none
  | k_l10_7 + 1, y2_l10_7, y3_l10_7, h_l10_7, n_l10_7 => (if 1000 ≤ y3_l10_7 then (if y2_l10_7 < 0 ∨ 65536 < y2_l10_7.toNatClampNeg then none else (ad 1 y2_l10_7.toNatClampNeg (rb_lt (va_up h_l10_7 n_l10_7 (some (.inl (eA Ev 0, y2_l10_7.toNatClampNeg, .inl (fun _ => 0))))) fun h_14 => ((hp_cpi Ev h_14 0 .int n 0 n_l10_7 0 y2_l10_7).bind fun h_15 => (some (n_l10_7, h_15, 0, 0)))))) else ((hp_is Ev h_l10_7 n y2_l10_7 y3_l10_7).bind fun h_17 => ((hp_zl Ev h_17 x0 y3_l10_7).bind fun v_19 => (if v_19 = 0 then (f_X12_listed_j33_22 Ev x0 y2_l10_7 y3_l10_7 n_l10_7 (f_X12_listed_l10_7 Ev x0 n k_l10_7) h_17 0) else (f_X12_listed_j33_22 Ev x0 y2_l10_7 y3_l10_7 n_l10_7 (f_X12_listed_l10_7 Ev x0 n k_l10_7) h_17 1)))))
def f_X12_listed (Ev : rb_E) (h : AH) (n : Nat) (x0 : Nat) : Option (Nat × AH × Nat × Nat) := (if (1000 : Int32) < 0 ∨ 65536 < (1000 : Int32).toNatClampNeg then none else (ad 1 (1000 : Int32).toNatClampNeg (rb_lt (va_up h n (some (.inl (eA Ev 0, (1000 : Int32).toNatClampNeg, .inl (fun _ => 0))))) fun h_6 => (f_X12_listed_l10_7 Ev x0 n 4096 0 0 h_6 (n + 1)))))
abbrev rm_X12_listed (k s : Nat) : Room := { frames := 1, cells := k, slots := s, locals := 60 }
set_option maxHeartbeats 4000000 in
theorem ct_X12_listed (Ev : rb_E) (h : AH) (n : Nat) (x0 : Nat) (r : Nat) (h' : AH) (k s : Nat) (hf : f_X12_listed Ev h n x0 = some (r, h', k, s)) : Ct Ev yX12_listed (ws_ yX12_listed cX12_listed 4 (some (.array .int))) (rm_X12_listed k s) [.ref x0] h n (pX (.inl (some (.ref r))) h' (n + k)) := by
  rw [f_X12_listed] at hf
  refine Ct.of rfl (Nat.le_of_ble_eq_true rfl) fun X C hnm => ?_
  have C : Cx Ev X RX12 cX12_listed 4 (some (.array .int)) [] := C
  show Wa Ev X (rm_X12_listed k s) 4 h n 0 0 (rb_MQ Ev X (rm_X12_listed k s) (pX (.inl (some (.ref r))) h' (n + k))) 0 [(0, .ref x0)] []
  have hb : Bd (n + k) k s n 0 0 k s := ⟨rfl, Nat.le_of_eq (Nat.zero_add _), Nat.le_of_eq (Nat.zero_add _)⟩
  refine rb_sipush (v := 1000) C dX12_listed_0 rfl ?_
  by_cases c_g_1 : (1000 : Int32) < 0 ∨ 65536 < (1000 : Int32).toNatClampNeg
  · exact absurd ((if_pos c_g_1).symm.trans hf) (fun z => by cases z)
  have hf := (if_neg c_g_1).symm.trans hf
  obtain ⟨a_4, b_5, hf, ea_2, eb_3⟩ := ad_at hf
  refine rb_hnewa (atype := .int) C 0 rfl rfl rfl q202 c_g_1 ((1000 : Int32).toNatClampNeg, .inl (fun _ => 0)) (fun _ => rfl) (Bd.c1 hb ea_2) (Bd.s1 hb eb_3) dX12_listed_3 ?_
  have hb := Bd.ade hb ea_2 eb_3
  obtain ⟨h_6, e_h_6⟩ : ∃ z, z = (va_up h n (some (.inl (eA Ev 0, (1000 : Int32).toNatClampNeg, .inl (fun _ => 0))))) := ⟨_, rfl⟩
  rw [← e_h_6]
  have hf := rb_let hf e_h_6
  refine rb_astore_n (lv' := [(1, .ref n), (0, .ref x0)]) C dX12_listed_5 rfl (by decide) rfl ?_
  refine rb_iconst (v := 0) C dX12_listed_6 rfl ?_
  refine rb_istore_n (lv' := [(2, .int 0), (1, .ref n), (0, .ref x0)]) C dX12_listed_7 rfl (by decide) rfl ?_
  refine rb_iconst (v := 0) C dX12_listed_8 rfl ?_
  refine rb_istore_n (lv' := [(3, .int 0), (2, .int 0), (1, .ref n), (0, .ref x0)]) C dX12_listed_9 rfl (by decide) rfl ?_
  have L_l10_7 : ∀ (k_l10_7 : Nat) (y2_l10_7 : Int32) (y3_l10_7 : Int32) (h_l10_7 : AH) (n_l10_7 kc_l10_7 ks_l10_7 a_ b_ : Nat), f_X12_listed_l10_7 Ev x0 n k_l10_7 y2_l10_7 y3_l10_7 h_l10_7 n_l10_7 = some (r, h', a_, b_) → Bd (n + k) k s n_l10_7 kc_l10_7 ks_l10_7 a_ b_ → Wa Ev X (rm_X12_listed k s) 4 h_l10_7 n_l10_7 kc_l10_7 ks_l10_7 (rb_MQ Ev X (rm_X12_listed k s) (pX (.inl (some (.ref r))) h' (n + k))) 10 [(0, .ref x0), (1, .ref n), (2, .int y2_l10_7), (3, .int y3_l10_7)] [] := by
    intro k_l10_7
    induction k_l10_7 with
    | zero => intro y2_l10_7 y3_l10_7 h_l10_7 n_l10_7 kc_l10_7 ks_l10_7 a_ b_ hf hb; cases hf
    | succ k_l10_7 ih_l10_7 =>
      intro y2_l10_7 y3_l10_7 h_l10_7 n_l10_7 kc_l10_7 ks_l10_7 a_ b_ hf hb
      rw [f_X12_listed_l10_7] at hf
      refine rb_iload_n C dX12_listed_10 rfl 3 rfl ?_
      refine rb_sipush (v := 1000) C dX12_listed_11 rfl ?_
      refine rb_icmp_ge (tgt := 45) C dX12_listed_14 (by decide) (fun c_8 => ?_) (fun c_8 => ?_)
      · have hf := (if_pos c_8).symm.trans hf
        refine rb_iload_n C dX12_listed_45 rfl 2 rfl ?_
        by_cases c_g_9 : y2_l10_7 < 0 ∨ 65536 < y2_l10_7.toNatClampNeg
        · exact absurd ((if_pos c_g_9).symm.trans hf) (fun z => by cases z)
        have hf := (if_neg c_g_9).symm.trans hf
        obtain ⟨a_12, b_13, hf, ea_10, eb_11⟩ := ad_at hf
        refine rb_hnewa (atype := .int) C 0 rfl rfl rfl q202 c_g_9 (y2_l10_7.toNatClampNeg, .inl (fun _ => 0)) (fun _ => rfl) (Bd.c1 hb ea_10) (Bd.s1 hb eb_11) dX12_listed_46 ?_
        have hb := Bd.ade hb ea_10 eb_11
        obtain ⟨h_14, e_h_14⟩ : ∃ z, z = (va_up h_l10_7 n_l10_7 (some (.inl (eA Ev 0, y2_l10_7.toNatClampNeg, .inl (fun _ => 0))))) := ⟨_, rfl⟩
        rw [← e_h_14]
        have hf := rb_let hf e_h_14
        refine rb_astore_n (lv' := [(3, .ref n_l10_7), (0, .ref x0), (1, .ref n), (2, .int y2_l10_7)]) C dX12_listed_48 rfl (by decide) rfl ?_
        refine rb_aload_n C dX12_listed_49 rfl 2 rfl ?_
        refine rb_iconst (v := 0) C dX12_listed_50 rfl ?_
        refine rb_aload_n C dX12_listed_51 rfl 0 rfl ?_
        refine rb_iconst (v := 0) C dX12_listed_52 rfl ?_
        refine rb_iload_n C dX12_listed_53 rfl 3 rfl ?_
        obtain ⟨h_15, e_16, hf⟩ := rb_bd hf
        refine rb_hcpi C 0 q1853 q310 q309 q83 rfl rfl e_16 (Nat.le_of_ble_eq_true rfl) (Nat.le_of_ble_eq_true rfl) dX12_listed_54 ?_
        refine rb_aload_n C dX12_listed_57 rfl 0 rfl ?_
        cases hf
        exact rb_aret C rfl (Or.inr ⟨_, rfl⟩) (Or.inr ⟨_, rfl⟩) hb.e.2.1 hb.e.2.2 dX12_listed_58 ⟨rfl, rfl, hb.e.1⟩
      · have hf := (if_neg c_8).symm.trans hf
        refine rb_aload_n C dX12_listed_17 rfl 1 rfl ?_
        refine rb_iload_n C dX12_listed_18 rfl 2 rfl ?_
        refine rb_iload_n C dX12_listed_19 rfl 3 rfl ?_
        obtain ⟨h_17, e_18, hf⟩ := rb_bd hf
        refine rb_his C e_18 dX12_listed_20 ?_
        refine rb_iload_n C dX12_listed_21 rfl 2 rfl ?_
        refine rb_aload_n C dX12_listed_22 rfl 0 rfl ?_
        refine rb_iload_n C dX12_listed_23 rfl 3 rfl ?_
        obtain ⟨v_19, e_20, hf⟩ := rb_bd hf
        refine rb_hzl C e_20 dX12_listed_24 ?_
        have J_j33_22 : ∀ (w0_j33_22 : Int32) (kc_j33_22 ks_j33_22 a_ b_ : Nat), f_X12_listed_j33_22 Ev x0 y2_l10_7 y3_l10_7 n_l10_7 (f_X12_listed_l10_7 Ev x0 n k_l10_7) h_17 w0_j33_22 = some (r, h', a_, b_) → Bd (n + k) k s n_l10_7 kc_j33_22 ks_j33_22 a_ b_ → Wa Ev X (rm_X12_listed k s) 4 h_17 n_l10_7 kc_j33_22 ks_j33_22 (rb_MQ Ev X (rm_X12_listed k s) (pX (.inl (some (.ref r))) h' (n + k))) 33 [(0, .ref x0), (1, .ref n), (2, .int y2_l10_7), (3, .int y3_l10_7)] [.int w0_j33_22, .int y2_l10_7] := by
          intro w0_j33_22 kc_j33_22 ks_j33_22 a_ b_ hf hb
          rw [f_X12_listed_j33_22] at hf
          refine rb_iadd C dX12_listed_33 ?_
          refine rb_istore_n (lv' := [(2, .int (y2_l10_7 + w0_j33_22)), (0, .ref x0), (1, .ref n), (3, .int y3_l10_7)]) C dX12_listed_34 rfl (by decide) rfl ?_
          refine rb_aload_n C dX12_listed_35 rfl 1 rfl ?_
          refine rb_iload_n C dX12_listed_36 rfl 3 rfl ?_
          refine rb_iconst (v := 0) C dX12_listed_37 rfl ?_
          obtain ⟨h_23, e_24, hf⟩ := rb_bd hf
          refine rb_hzs C e_24 dX12_listed_38 ?_
          refine rb_iinc (v := (y3_l10_7 + 1)) (lv' := [(3, .int (y3_l10_7 + 1)), (2, .int (y2_l10_7 + w0_j33_22)), (0, .ref x0), (1, .ref n)]) C dX12_listed_39 (k := 3) rfl rfl (by decide) rfl ?_
          refine rb_goto (tgt := 10) C dX12_listed_42 (by decide) ?_
          refine rb_sub [2, 3, 1, 0] rfl ?_
          exact ih_l10_7 (y2_l10_7 + w0_j33_22) (y3_l10_7 + 1) h_23 n_l10_7 _ _ _ _ hf hb
        refine rb_if_eq (tgt := 32) C dX12_listed_25 (by decide) (fun c_21 => ?_) (fun c_21 => ?_)
        · have hf := (if_pos c_21).symm.trans hf
          refine rb_iconst (v := 0) C dX12_listed_32 rfl ?_
          exact J_j33_22 0  _ _ _ _ hf hb
        · have hf := (if_neg c_21).symm.trans hf
          refine rb_iconst (v := 1) C dX12_listed_28 rfl ?_
          refine rb_goto (tgt := 33) C dX12_listed_29 (by decide) ?_
          exact J_j33_22 1  _ _ _ _ hf hb
  refine rb_sub [3, 2, 1, 0] rfl ?_
  exact L_l10_7 4096 0 0 h_6 (n + 1) _ _ _ _ hf hb
def f_X12_values_l35_24 (Ev : rb_E) (o : Nat) (n : Nat) (v_6 : Int32) (y4_l26_20 : Int32) (rec_l26_20 : Int32 → AH → Nat → Option (Nat × AH × Nat × Nat)) : Nat → Int32 → AH → Nat → Option (Nat × AH × Nat × Nat)
  | 0, _, _, _ => none
  | k_l35_24 + 1, y5_l35_24, h_l35_24, n_l35_24 => (if v_6 < (y5_l35_24 + y4_l26_20) then (rec_l26_20 (y4_l26_20 + 1) h_l35_24 n_l35_24) else ((hp_k Ev h_l35_24 o 10).bind fun u_26 => ((f_X12_find Ev h_l35_24 n_l35_24 o (n + 1) n y5_l35_24 y4_l26_20).bind fun (r_29, h_30, k_31, s_32) => (ad k_31 s_32 ((f_X12_listed Ev h_30 (n_l35_24 + k_31) (n + 1)).bind fun (r_39, h_40, k_41, s_42) => (ad k_41 s_42 ((hp_len Ev h_40 r_39 0).bind fun v_49 => ((hp_as Ev h_40 8 n ((y5_l35_24 * (v_6 + 1)) + y4_l26_20) (some r_39)).bind fun h_48 => ((f_X12_values_l35_24 Ev o n v_6 y4_l26_20 rec_l26_20 k_l35_24) (y5_l35_24 + 1) h_48 ((n_l35_24 + k_31) + k_41))))))))))
def f_X12_values_l26_20 (Ev : rb_E) (o : Nat) (n : Nat) (v_6 : Int32) : Nat → Int32 → AH → Nat → Option (Nat × AH × Nat × Nat)
  | 0, _, _, _ => none
  | k_l26_20 + 1, y4_l26_20, h_l26_20, n_l26_20 => (if v_6 < y4_l26_20 then ((hp_ap Ev h_l26_20 8 n v_6).bind fun v_22 => (some (v_22, h_l26_20, 0, 0))) else (f_X12_values_l35_24 Ev o n v_6 y4_l26_20 (f_X12_values_l26_20 Ev o n v_6 k_l26_20) 4096 0 h_l26_20 n_l26_20))
def f_X12_values (Ev : rb_E) (h : AH) (n : Nat) (o : Nat) : Option (Nat × AH × Nat × Nat) := ((hp_p Ev h o 10 0).bind fun v_1 => ((hp_k Ev h v_1 13).bind fun u_3 => ((f_J1_length Ev h v_1).bind fun v_6 => (if (v_6 * (v_6 + 1)) < 0 ∨ 65536 < (v_6 * (v_6 + 1)).toNatClampNeg then none else (ad 1 (v_6 * (v_6 + 1)).toNatClampNeg (rb_lt (va_up h n (some (.inl (eA Ev 8, (v_6 * (v_6 + 1)).toNatClampNeg, aQ (fun _ => none))))) fun h_13 => (if (1000 : Int32) < 0 ∨ 65536 < (1000 : Int32).toNatClampNeg then none else (ad 1 (1000 : Int32).toNatClampNeg (rb_lt (va_up h_13 (n + 1) (some (.inl (eA Ev 2, (1000 : Int32).toNatClampNeg, .inl (fun _ => 0))))) fun h_19 => (f_X12_values_l26_20 Ev o n v_6 4096 1 h_19 ((n + 1) + 1)))))))))))
abbrev rm_X12_values (k s : Nat) : Room := { frames := 10, cells := k, slots := s, locals := 237 }
set_option maxHeartbeats 4000000 in
theorem ct_X12_values (Ev : rb_E) (h : AH) (n : Nat) (o : Nat) (r : Nat) (h' : AH) (k s : Nat) (hf : f_X12_values Ev h n o = some (r, h', k, s)) : Ct Ev yX12_values (ws_ yX12_values cX12_values 6 (some (.array .int))) (rm_X12_values k s) [.ref o] h n (pX (.inl (some (.ref r))) h' (n + k)) := by
  rw [f_X12_values] at hf
  refine Ct.of rfl (Nat.le_of_ble_eq_true rfl) fun X C hnm => ?_
  have C : Cx Ev X RX12 cX12_values 6 (some (.array .int)) [] := C
  show Wa Ev X (rm_X12_values k s) 6 h n 0 0 (rb_MQ Ev X (rm_X12_values k s) (pX (.inl (some (.ref r))) h' (n + k))) 0 [(0, .ref o)] []
  have hb : Bd (n + k) k s n 0 0 k s := ⟨rfl, Nat.le_of_eq (Nat.zero_add _), Nat.le_of_eq (Nat.zero_add _)⟩
  refine rb_aload_n C dX12_values_0 rfl 0 rfl ?_
  obtain ⟨v_1, e_2, hf⟩ := rb_bd hf
  refine rb_hP C fl_X12_18_X12 e_2 dX12_values_1 ?_
  obtain ⟨u_3, e_4, hf⟩ := rb_bd hf
  obtain ⟨v_6, e_7, hf⟩ := rb_bd hf
  refine rb_callV (As := []) (rest := []) C mi_J1_length sv_X12_80 (hp_k_isC C.pf e_4 ck_J1) (ct_J1_length Ev h n v_1 _ e_7) rfl rfl (Nat.le_of_ble_eq_true rfl) ⟨Nat.le_of_ble_eq_true rfl, Nat.le_of_ble_eq_true rfl, hb.c0, hb.s0⟩ dX12_values_4 rb_xXi (rb_kXi fun hn_5 => (rb_w (kc := 0) (ks := 0) rfl rfl ?_))
  refine rb_istore_n (lv' := [(1, .int v_6), (0, .ref o)]) C dX12_values_7 rfl (by decide) rfl ?_
  refine rb_iload_n C dX12_values_8 rfl 0 rfl ?_
  refine rb_iload_n C dX12_values_9 rfl 0 rfl ?_
  refine rb_iconst (v := 1) C dX12_values_10 rfl ?_
  refine rb_iadd C dX12_values_11 ?_
  refine rb_imul C dX12_values_12 ?_
  by_cases c_g_8 : (v_6 * (v_6 + 1)) < 0 ∨ 65536 < (v_6 * (v_6 + 1)).toNatClampNeg
  · exact absurd ((if_pos c_g_8).symm.trans hf) (fun z => by cases z)
  have hf := (if_neg c_g_8).symm.trans hf
  obtain ⟨a_11, b_12, hf, ea_9, eb_10⟩ := ad_at hf
  refine rb_hnewqA C q1844 c_g_8 (Bd.c1 hb ea_9) (Bd.s1 hb eb_10) dX12_values_13 ?_
  have hb := Bd.ade hb ea_9 eb_10
  obtain ⟨h_13, e_h_13⟩ : ∃ z, z = (va_up h n (some (.inl (eA Ev 8, (v_6 * (v_6 + 1)).toNatClampNeg, aQ (fun _ => none))))) := ⟨_, rfl⟩
  rw [← e_h_13]
  have hf := rb_let hf e_h_13
  refine rb_astore_n (lv' := [(2, .ref n), (1, .int v_6), (0, .ref o)]) C dX12_values_16 rfl (by decide) rfl ?_
  refine rb_sipush (v := 1000) C dX12_values_17 rfl ?_
  by_cases c_g_14 : (1000 : Int32) < 0 ∨ 65536 < (1000 : Int32).toNatClampNeg
  · exact absurd ((if_pos c_g_14).symm.trans hf) (fun z => by cases z)
  have hf := (if_neg c_g_14).symm.trans hf
  obtain ⟨a_17, b_18, hf, ea_15, eb_16⟩ := ad_at hf
  refine rb_hnewa (atype := .boolean) C 2 rfl rfl rfl q203 c_g_14 ((1000 : Int32).toNatClampNeg, .inl (fun _ => 0)) (fun _ => rfl) (Bd.c1 hb ea_15) (Bd.s1 hb eb_16) dX12_values_20 ?_
  have hb := Bd.ade hb ea_15 eb_16
  obtain ⟨h_19, e_h_19⟩ : ∃ z, z = (va_up h_13 (n + 1) (some (.inl (eA Ev 2, (1000 : Int32).toNatClampNeg, .inl (fun _ => 0))))) := ⟨_, rfl⟩
  rw [← e_h_19]
  have hf := rb_let hf e_h_19
  refine rb_astore_n (lv' := [(3, .ref (n + 1)), (2, .ref n), (1, .int v_6), (0, .ref o)]) C dX12_values_22 rfl (by decide) rfl ?_
  refine rb_iconst (v := 1) C dX12_values_23 rfl ?_
  refine rb_istore (lv' := [(4, .int 1), (3, .ref (n + 1)), (2, .ref n), (1, .int v_6), (0, .ref o)]) C dX12_values_24 (by decide) rfl ?_
  have L_l26_20 : ∀ (k_l26_20 : Nat) (y4_l26_20 : Int32) (h_l26_20 : AH) (n_l26_20 kc_l26_20 ks_l26_20 a_ b_ : Nat), f_X12_values_l26_20 Ev o n v_6 k_l26_20 y4_l26_20 h_l26_20 n_l26_20 = some (r, h', a_, b_) → Bd (n + k) k s n_l26_20 kc_l26_20 ks_l26_20 a_ b_ → Wa Ev X (rm_X12_values k s) 6 h_l26_20 n_l26_20 kc_l26_20 ks_l26_20 (rb_MQ Ev X (rm_X12_values k s) (pX (.inl (some (.ref r))) h' (n + k))) 26 [(0, .ref o), (1, .int v_6), (2, .ref n), (3, .ref (n + 1)), (4, .int y4_l26_20)] [] := by
    intro k_l26_20
    induction k_l26_20 with
    | zero => intro y4_l26_20 h_l26_20 n_l26_20 kc_l26_20 ks_l26_20 a_ b_ hf hb; cases hf
    | succ k_l26_20 ih_l26_20 =>
      intro y4_l26_20 h_l26_20 n_l26_20 kc_l26_20 ks_l26_20 a_ b_ hf hb
      rw [f_X12_values_l26_20] at hf
      refine rb_iload C dX12_values_26 4 rfl ?_
      refine rb_iload_n C dX12_values_28 rfl 1 rfl ?_
      refine rb_icmp_gt (tgt := 81) C dX12_values_29 (by decide) (fun c_21 => ?_) (fun c_21 => ?_)
      · have hf := (if_pos c_21).symm.trans hf
        refine rb_aload_n C dX12_values_81 rfl 2 rfl ?_
        refine rb_iload_n C dX12_values_82 rfl 1 rfl ?_
        obtain ⟨v_22, e_23, hf⟩ := rb_bd hf
        refine rb_hap C 8 rfl rfl e_23 dX12_values_83 ?_
        cases hf
        exact rb_aret C rfl (Or.inr ⟨_, rfl⟩) (Or.inr ⟨_, rfl⟩) hb.e.2.1 hb.e.2.2 dX12_values_84 ⟨rfl, rfl, hb.e.1⟩
      · have hf := (if_neg c_21).symm.trans hf
        refine rb_iconst (v := 0) C dX12_values_32 rfl ?_
        refine rb_istore (lv' := [(5, .int 0), (0, .ref o), (1, .int v_6), (2, .ref n), (3, .ref (n + 1)), (4, .int y4_l26_20)]) C dX12_values_33 (by decide) rfl ?_
        have L_l35_24 : ∀ (k_l35_24 : Nat) (y5_l35_24 : Int32) (h_l35_24 : AH) (n_l35_24 kc_l35_24 ks_l35_24 a_ b_ : Nat), f_X12_values_l35_24 Ev o n v_6 y4_l26_20 (f_X12_values_l26_20 Ev o n v_6 k_l26_20) k_l35_24 y5_l35_24 h_l35_24 n_l35_24 = some (r, h', a_, b_) → Bd (n + k) k s n_l35_24 kc_l35_24 ks_l35_24 a_ b_ → Wa Ev X (rm_X12_values k s) 6 h_l35_24 n_l35_24 kc_l35_24 ks_l35_24 (rb_MQ Ev X (rm_X12_values k s) (pX (.inl (some (.ref r))) h' (n + k))) 35 [(0, .ref o), (1, .int v_6), (2, .ref n), (3, .ref (n + 1)), (4, .int y4_l26_20), (5, .int y5_l35_24)] [] := by
          intro k_l35_24
          induction k_l35_24 with
          | zero => intro y5_l35_24 h_l35_24 n_l35_24 kc_l35_24 ks_l35_24 a_ b_ hf hb; cases hf
          | succ k_l35_24 ih_l35_24 =>
            intro y5_l35_24 h_l35_24 n_l35_24 kc_l35_24 ks_l35_24 a_ b_ hf hb
            rw [f_X12_values_l35_24] at hf
            refine rb_iload C dX12_values_35 5 rfl ?_
            refine rb_iload C dX12_values_37 4 rfl ?_
            refine rb_iadd C dX12_values_39 ?_
            refine rb_iload_n C dX12_values_40 rfl 1 rfl ?_
            refine rb_icmp_gt (tgt := 75) C dX12_values_41 (by decide) (fun c_25 => ?_) (fun c_25 => ?_)
            · have hf := (if_pos c_25).symm.trans hf
              refine rb_iinc (v := (y4_l26_20 + 1)) (lv' := [(4, .int (y4_l26_20 + 1)), (0, .ref o), (1, .int v_6), (2, .ref n), (3, .ref (n + 1)), (5, .int y5_l35_24)]) C dX12_values_75 (k := 4) rfl rfl (by decide) rfl ?_
              refine rb_goto (tgt := 26) C dX12_values_78 (by decide) ?_
              refine rb_sub [1, 2, 3, 4, 0] rfl ?_
              exact ih_l26_20 (y4_l26_20 + 1) h_l35_24 n_l35_24 _ _ _ _ hf hb
            · have hf := (if_neg c_25).symm.trans hf
              refine rb_aload_n C dX12_values_44 rfl 0 rfl ?_
              refine rb_aload_n C dX12_values_45 rfl 3 rfl ?_
              refine rb_aload_n C dX12_values_46 rfl 2 rfl ?_
              refine rb_iload C dX12_values_47 5 rfl ?_
              refine rb_iload C dX12_values_49 4 rfl ?_
              obtain ⟨u_26, e_27, hf⟩ := rb_bd hf
              obtain ⟨⟨r_29, h_30, k_31, s_32⟩, e_33, hf⟩ := rb_bd hf
              obtain ⟨a_36, b_37, hf, ea_34, eb_35⟩ := ad_at hf
              refine rb_callV (As := [.ref (n + 1), .ref n, .int y5_l35_24, .int y4_l26_20]) (rest := []) C mi_X12_find sv_X12_82 (hp_k_isC C.pf e_27 ck_X12) (ct_X12_find Ev h_l35_24 n_l35_24 o (n + 1) n y5_l35_24 y4_l26_20 r_29 _ _ _ e_33) rfl rfl (Nat.le_of_ble_eq_true rfl) ⟨Nat.le_of_ble_eq_true rfl, Nat.le_of_ble_eq_true rfl, Bd.c1 hb ea_34, Bd.s1 hb eb_35⟩ dX12_values_51 rb_xX (rb_kX (rb_w (kc := (kc_l35_24 + k_31)) (ks := (ks_l35_24 + s_32)) rfl rfl ?_))
              have hb := Bd.ade hb ea_34 eb_35
              refine rb_aload_n C dX12_values_54 rfl 2 rfl ?_
              refine rb_iload C dX12_values_55 5 rfl ?_
              refine rb_iload_n C dX12_values_57 rfl 1 rfl ?_
              refine rb_iconst (v := 1) C dX12_values_58 rfl ?_
              refine rb_iadd C dX12_values_59 ?_
              refine rb_imul C dX12_values_60 ?_
              refine rb_iload C dX12_values_61 4 rfl ?_
              refine rb_iadd C dX12_values_63 ?_
              refine rb_aload_n C dX12_values_64 rfl 3 rfl ?_
              obtain ⟨⟨r_39, h_40, k_41, s_42⟩, e_43, hf⟩ := rb_bd hf
              obtain ⟨a_46, b_47, hf, ea_44, eb_45⟩ := ad_at hf
              refine rb_callS (As := [.ref (n + 1)]) (rest := [.int ((y5_l35_24 * (v_6 + 1)) + y4_l26_20), .ref n]) C mi_X12_listed ss_X12_86 (ct_X12_listed Ev h_30 (n_l35_24 + k_31) (n + 1) r_39 _ _ _ e_43) rfl rfl (Nat.le_of_ble_eq_true rfl) ⟨Nat.le_of_ble_eq_true rfl, Nat.le_of_ble_eq_true rfl, Bd.c1 hb ea_44, Bd.s1 hb eb_45⟩ dX12_values_65 rb_xX (rb_kX (rb_w (kc := ((kc_l35_24 + k_31) + k_41)) (ks := ((ks_l35_24 + s_32) + s_42)) rfl rfl ?_))
              have hb := Bd.ade hb ea_44 eb_45
              obtain ⟨v_49, e_50, hf⟩ := rb_bd hf
              obtain ⟨h_48, e_51, hf⟩ := rb_bd hf
              refine rb_hasA C e_50 e_51 dX12_values_68 ?_
              refine rb_iinc (v := (y5_l35_24 + 1)) (lv' := [(5, .int (y5_l35_24 + 1)), (0, .ref o), (1, .int v_6), (2, .ref n), (3, .ref (n + 1)), (4, .int y4_l26_20)]) C dX12_values_69 (k := 5) rfl rfl (by decide) rfl ?_
              refine rb_goto (tgt := 35) C dX12_values_72 (by decide) ?_
              refine rb_sub [1, 2, 3, 4, 5, 0] rfl ?_
              exact ih_l35_24 (y5_l35_24 + 1) h_48 ((n_l35_24 + k_31) + k_41) _ _ _ _ hf hb
        refine rb_sub [1, 2, 3, 4, 5, 0] rfl ?_
        exact L_l35_24 4096 0 h_l26_20 n_l26_20 _ _ _ _ hf hb
  refine rb_sub [4, 3, 2, 1, 0] rfl ?_
  exact L_l26_20 4096 1 h_19 ((n + 1) + 1) _ _ _ _ hf hb
def f_X1_greatest (Ev : rb_E) (h : AH) (n : Nat) (o : Nat) : Option (Int32 × AH × Nat × Nat) := (ad 1 7 (rb_lt (va_up h n (some (.inr (10, [.null, .null, .null, .null, .int 0, .long 0, .null])))) fun h_5 => ((f_X12_init Ev h_5 (n + 1) n o).bind fun (r_7, h_8, k_9, s_10) => (ad k_9 s_10 ((hp_k Ev h_8 n 10).bind fun u_16 => ((f_X12_values Ev h_8 ((n + 1) + k_9) n).bind fun (r_19, h_20, k_21, s_22) => (ad k_21 s_22 ((hp_len Ev h_20 r_19 0).bind fun v_28 => ((hp_il Ev h_20 r_19 ((nI v_28) - 1)).bind fun v_30 => (some (v_30, h_20, 0, 0)))))))))))
abbrev rm_X1_greatest (k s : Nat) : Room := { frames := 76, cells := k, slots := s, locals := 2890 }
set_option maxHeartbeats 4000000 in
theorem ct_X1_greatest (Ev : rb_E) (h : AH) (n : Nat) (o : Nat) (r : Int32) (h' : AH) (k s : Nat) (hf : f_X1_greatest Ev h n o = some (r, h', k, s)) : Ct Ev yX1_greatest (ws_ yX1_greatest cX1_greatest 2 (some .int)) (rm_X1_greatest k s) [.ref o] h n (pXi .int r h' (n + k)) := by
  rw [f_X1_greatest] at hf
  refine Ct.of rfl (Nat.le_of_ble_eq_true rfl) fun X C hnm => ?_
  have C : Cx Ev X RX1 cX1_greatest 2 (some .int) [] := C
  show Wa Ev X (rm_X1_greatest k s) 2 h n 0 0 (rb_MQ Ev X (rm_X1_greatest k s) (pXi .int r h' (n + k))) 0 [(0, .ref o)] []
  have hb : Bd (n + k) k s n 0 0 k s := ⟨rfl, Nat.le_of_eq (Nat.zero_add _), Nat.le_of_eq (Nat.zero_add _)⟩
  obtain ⟨a_3, b_4, hf, ea_1, eb_2⟩ := ad_at hf
  refine rb_hnew C ck_X12 q1766 q1767 q108 [.null, .null, .null, .null, .int 0, .long 0, .null] rfl (Bd.c1 hb ea_1) (Bd.s1 hb eb_2) dX1_greatest_0 ?_
  have hb := Bd.ade hb ea_1 eb_2
  obtain ⟨h_5, e_h_5⟩ : ∃ z, z = (va_up h n (some (.inr (10, [.null, .null, .null, .null, .int 0, .long 0, .null])))) := ⟨_, rfl⟩
  rw [← e_h_5]
  have hf := rb_let hf e_h_5
  refine rb_dup C dX1_greatest_3 rfl ?_
  refine rb_aload_n C dX1_greatest_4 rfl 0 rfl ?_
  obtain ⟨⟨r_7, h_8, k_9, s_10⟩, e_11, hf⟩ := rb_bd hf
  obtain ⟨a_14, b_15, hf, ea_12, eb_13⟩ := ad_at hf
  refine rb_callI (As := [.ref o]) (rest := [.ref n]) C mi_X12_init si_X1_297 (ct_X12_init Ev h_5 (n + 1) n o r_7 _ _ _ e_11) rfl rfl (Nat.le_of_ble_eq_true rfl) ⟨Nat.le_of_ble_eq_true rfl, Nat.le_of_ble_eq_true rfl, Bd.c1 hb ea_12, Bd.s1 hb eb_13⟩ dX1_greatest_5 rb_xX (rb_kX (rb_w (kc := ((0 + 1) + k_9)) (ks := ((0 + 7) + s_10)) rfl rfl ?_))
  have hb := Bd.ade hb ea_12 eb_13
  obtain ⟨u_16, e_17, hf⟩ := rb_bd hf
  obtain ⟨⟨r_19, h_20, k_21, s_22⟩, e_23, hf⟩ := rb_bd hf
  obtain ⟨a_26, b_27, hf, ea_24, eb_25⟩ := ad_at hf
  refine rb_callV (As := []) (rest := []) C mi_X12_values sv_X1_312 (hp_k_isC C.pf e_17 ck_X12) (ct_X12_values Ev h_8 ((n + 1) + k_9) n r_19 _ _ _ e_23) rfl rfl (Nat.le_of_ble_eq_true rfl) ⟨Nat.le_of_ble_eq_true rfl, Nat.le_of_ble_eq_true rfl, Bd.c1 hb ea_24, Bd.s1 hb eb_25⟩ dX1_greatest_8 rb_xX (rb_kX (rb_w (kc := (((0 + 1) + k_9) + k_21)) (ks := (((0 + 7) + s_10) + s_22)) rfl rfl ?_))
  have hb := Bd.ade hb ea_24 eb_25
  refine rb_astore_n (lv' := [(1, .ref r_19), (0, .ref o)]) C dX1_greatest_11 rfl (by decide) rfl ?_
  refine rb_aload_n C dX1_greatest_12 rfl 0 rfl ?_
  refine rb_aload_n C dX1_greatest_13 rfl 0 rfl ?_
  obtain ⟨v_28, e_29, hf⟩ := rb_bd hf
  refine rb_hlen (t := 0) C rfl e_29 dX1_greatest_14 ?_
  refine rb_iconst (v := 1) C dX1_greatest_15 rfl ?_
  refine rb_isub C dX1_greatest_16 ?_
  obtain ⟨v_30, e_31, hf⟩ := rb_bd hf
  refine rb_hil C e_31 dX1_greatest_17 ?_
  cases hf
  exact rb_iret C rfl rfl hb.e.2.1 hb.e.2.2 dX1_greatest_18 ⟨rfl, rfl, hb.e.1, rfl⟩
def f_X1_greatestByMaking (Ev : rb_E) (h : AH) (n : Nat) (o : Nat) : Option ((Int32 ⊕ (String × Nat)) × AH × Nat × Nat) := (ad 1 7 (rb_lt (va_up h n (some (.inr (10, [.null, .null, .null, .null, .int 0, .long 0, .null])))) fun h_5 => ((f_X12_init Ev h_5 (n + 1) n o).bind fun (r_7, h_8, k_9, s_10) => (ad k_9 s_10 ((hp_k Ev h_8 n 10).bind fun u_16 => ((f_X12_makeAll Ev h_8 ((n + 1) + k_9) n).bind fun (r_19, h_20, k_21, s_22) => (ad k_21 s_22 (match r_19 with | .inl v_28 => ((hp_i Ev h_20 v_28 10 4).bind fun v_31 => (some (.inl v_31, h_20, 0, 0))) | .inr (E_29, q_30) => (if E_29 = "java/lang/IllegalArgumentException" then (some (.inr ("java/lang/IllegalArgumentException", q_30), h_20, 0, 0)) else none)))))))))
abbrev rm_X1_greatestByMaking (k s : Nat) : Room := { frames := 76, cells := k, slots := s, locals := 2890 }
set_option maxHeartbeats 4000000 in
theorem ct_X1_greatestByMaking (Ev : rb_E) (h : AH) (n : Nat) (o : Nat) (r : Int32 ⊕ (String × Nat)) (h' : AH) (k s : Nat) (hf : f_X1_greatestByMaking Ev h n o = some (r, h', k, s)) : Ct Ev yX1_greatestByMaking (ws_ yX1_greatestByMaking cX1_greatestByMaking 1 (some .int)) (rm_X1_greatestByMaking k s) [.ref o] h n (pX (rMap (fun v => some (.int v)) r) h' (n + k)) := by
  rw [f_X1_greatestByMaking] at hf
  refine Ct.of rfl (Nat.le_of_ble_eq_true rfl) fun X C hnm => ?_
  have C : Cx Ev X RX1 cX1_greatestByMaking 1 (some .int) [] := C
  show Wa Ev X (rm_X1_greatestByMaking k s) 1 h n 0 0 (rb_MQ Ev X (rm_X1_greatestByMaking k s) (pX (rMap (fun v => some (.int v)) r) h' (n + k))) 0 [(0, .ref o)] []
  have hb : Bd (n + k) k s n 0 0 k s := ⟨rfl, Nat.le_of_eq (Nat.zero_add _), Nat.le_of_eq (Nat.zero_add _)⟩
  obtain ⟨a_3, b_4, hf, ea_1, eb_2⟩ := ad_at hf
  refine rb_hnew C ck_X12 q1766 q1767 q108 [.null, .null, .null, .null, .int 0, .long 0, .null] rfl (Bd.c1 hb ea_1) (Bd.s1 hb eb_2) dX1_greatestByMaking_0 ?_
  have hb := Bd.ade hb ea_1 eb_2
  obtain ⟨h_5, e_h_5⟩ : ∃ z, z = (va_up h n (some (.inr (10, [.null, .null, .null, .null, .int 0, .long 0, .null])))) := ⟨_, rfl⟩
  rw [← e_h_5]
  have hf := rb_let hf e_h_5
  refine rb_dup C dX1_greatestByMaking_3 rfl ?_
  refine rb_aload_n C dX1_greatestByMaking_4 rfl 0 rfl ?_
  obtain ⟨⟨r_7, h_8, k_9, s_10⟩, e_11, hf⟩ := rb_bd hf
  obtain ⟨a_14, b_15, hf, ea_12, eb_13⟩ := ad_at hf
  refine rb_callI (As := [.ref o]) (rest := [.ref n]) C mi_X12_init si_X1_297 (ct_X12_init Ev h_5 (n + 1) n o r_7 _ _ _ e_11) rfl rfl (Nat.le_of_ble_eq_true rfl) ⟨Nat.le_of_ble_eq_true rfl, Nat.le_of_ble_eq_true rfl, Bd.c1 hb ea_12, Bd.s1 hb eb_13⟩ dX1_greatestByMaking_5 rb_xX (rb_kX (rb_w (kc := ((0 + 1) + k_9)) (ks := ((0 + 7) + s_10)) rfl rfl ?_))
  have hb := Bd.ade hb ea_12 eb_13
  obtain ⟨u_16, e_17, hf⟩ := rb_bd hf
  obtain ⟨⟨r_19, h_20, k_21, s_22⟩, e_23, hf⟩ := rb_bd hf
  obtain ⟨a_26, b_27, hf, ea_24, eb_25⟩ := ad_at hf
  rcases r_19 with v_28 | ⟨E_29, q_30⟩
  · dsimp only at hf
    refine rb_callV (As := []) (rest := []) C mi_X12_makeAll sv_X1_304 (hp_k_isC C.pf e_17 ck_X12) (ct_X12_makeAll Ev h_8 ((n + 1) + k_9) n (.inl v_28) _ _ _ e_23) rfl rfl (Nat.le_of_ble_eq_true rfl) ⟨Nat.le_of_ble_eq_true rfl, Nat.le_of_ble_eq_true rfl, Bd.c1 hb ea_24, Bd.s1 hb eb_25⟩ dX1_greatestByMaking_8 rb_xX (rb_kX (r := some (.ref v_28)) (rb_w (kc := (((0 + 1) + k_9) + k_21)) (ks := (((0 + 7) + s_10) + s_22)) rfl rfl ?_))
    have hb := Bd.ade hb ea_24 eb_25
    obtain ⟨v_31, e_32, hf⟩ := rb_bd hf
    refine rb_hI C fl_X1_316_X12 e_32 dX1_greatestByMaking_11 ?_
    cases hf
    exact rb_iret C rfl rfl hb.e.2.1 hb.e.2.2 dX1_greatestByMaking_14 ⟨rfl, rfl, hb.e.1⟩
  · dsimp only at hf
    by_cases c_33 : E_29 = "java/lang/IllegalArgumentException"
    · have hf := (if_pos c_33).symm.trans hf
      subst c_33
      refine rb_callV (As := []) (rest := []) C mi_X12_makeAll sv_X1_304 (hp_k_isC C.pf e_17 ck_X12) (ct_X12_makeAll Ev h_8 ((n + 1) + k_9) n (.inr ("java/lang/IllegalArgumentException", q_30)) _ _ _ e_23) rfl rfl (Nat.le_of_ble_eq_true rfl) ⟨Nat.le_of_ble_eq_true rfl, Nat.le_of_ble_eq_true rfl, Bd.c1 hb ea_24, Bd.s1 hb eb_25⟩ dX1_greatestByMaking_8 (rb_xY (E := "java/lang/IllegalArgumentException") (rb_wX (kc := (((0 + 1) + k_9) + k_21)) (ks := (((0 + 7) + s_10) + s_22)) rfl rfl ?_)) rb_kY
      have hb := Bd.ade hb ea_24 eb_25
      cases hf
      exact rb_out C (fun _ z => absurd z List.not_mem_nil) hb.e.2.1 hb.e.2.2 ⟨rfl, rfl, hb.e.1⟩
    have hf := (if_neg c_33).symm.trans hf
    cases hf
def f_X1_values (Ev : rb_E) (h : AH) (n : Nat) (o : Nat) : Option (Int32 × AH × Nat × Nat) := (ad 1 7 (rb_lt (va_up h n (some (.inr (10, [.null, .null, .null, .null, .int 0, .long 0, .null])))) fun h_5 => ((f_X12_init Ev h_5 (n + 1) n o).bind fun (r_7, h_8, k_9, s_10) => (ad k_9 s_10 ((hp_k Ev h_8 n 10).bind fun u_16 => ((f_X12_values Ev h_8 ((n + 1) + k_9) n).bind fun (r_19, h_20, k_21, s_22) => (ad k_21 s_22 ((hp_len Ev h_20 r_19 0).bind fun v_28 => (some ((nI v_28), h_20, 0, 0))))))))))
abbrev rm_X1_values (k s : Nat) : Room := { frames := 76, cells := k, slots := s, locals := 2890 }
set_option maxHeartbeats 4000000 in
theorem ct_X1_values (Ev : rb_E) (h : AH) (n : Nat) (o : Nat) (r : Int32) (h' : AH) (k s : Nat) (hf : f_X1_values Ev h n o = some (r, h', k, s)) : Ct Ev yX1_values (ws_ yX1_values cX1_values 1 (some .int)) (rm_X1_values k s) [.ref o] h n (pXi .int r h' (n + k)) := by
  rw [f_X1_values] at hf
  refine Ct.of rfl (Nat.le_of_ble_eq_true rfl) fun X C hnm => ?_
  have C : Cx Ev X RX1 cX1_values 1 (some .int) [] := C
  show Wa Ev X (rm_X1_values k s) 1 h n 0 0 (rb_MQ Ev X (rm_X1_values k s) (pXi .int r h' (n + k))) 0 [(0, .ref o)] []
  have hb : Bd (n + k) k s n 0 0 k s := ⟨rfl, Nat.le_of_eq (Nat.zero_add _), Nat.le_of_eq (Nat.zero_add _)⟩
  obtain ⟨a_3, b_4, hf, ea_1, eb_2⟩ := ad_at hf
  refine rb_hnew C ck_X12 q1766 q1767 q108 [.null, .null, .null, .null, .int 0, .long 0, .null] rfl (Bd.c1 hb ea_1) (Bd.s1 hb eb_2) dX1_values_0 ?_
  have hb := Bd.ade hb ea_1 eb_2
  obtain ⟨h_5, e_h_5⟩ : ∃ z, z = (va_up h n (some (.inr (10, [.null, .null, .null, .null, .int 0, .long 0, .null])))) := ⟨_, rfl⟩
  rw [← e_h_5]
  have hf := rb_let hf e_h_5
  refine rb_dup C dX1_values_3 rfl ?_
  refine rb_aload_n C dX1_values_4 rfl 0 rfl ?_
  obtain ⟨⟨r_7, h_8, k_9, s_10⟩, e_11, hf⟩ := rb_bd hf
  obtain ⟨a_14, b_15, hf, ea_12, eb_13⟩ := ad_at hf
  refine rb_callI (As := [.ref o]) (rest := [.ref n]) C mi_X12_init si_X1_297 (ct_X12_init Ev h_5 (n + 1) n o r_7 _ _ _ e_11) rfl rfl (Nat.le_of_ble_eq_true rfl) ⟨Nat.le_of_ble_eq_true rfl, Nat.le_of_ble_eq_true rfl, Bd.c1 hb ea_12, Bd.s1 hb eb_13⟩ dX1_values_5 rb_xX (rb_kX (rb_w (kc := ((0 + 1) + k_9)) (ks := ((0 + 7) + s_10)) rfl rfl ?_))
  have hb := Bd.ade hb ea_12 eb_13
  obtain ⟨u_16, e_17, hf⟩ := rb_bd hf
  obtain ⟨⟨r_19, h_20, k_21, s_22⟩, e_23, hf⟩ := rb_bd hf
  obtain ⟨a_26, b_27, hf, ea_24, eb_25⟩ := ad_at hf
  refine rb_callV (As := []) (rest := []) C mi_X12_values sv_X1_312 (hp_k_isC C.pf e_17 ck_X12) (ct_X12_values Ev h_8 ((n + 1) + k_9) n r_19 _ _ _ e_23) rfl rfl (Nat.le_of_ble_eq_true rfl) ⟨Nat.le_of_ble_eq_true rfl, Nat.le_of_ble_eq_true rfl, Bd.c1 hb ea_24, Bd.s1 hb eb_25⟩ dX1_values_8 rb_xX (rb_kX (rb_w (kc := (((0 + 1) + k_9) + k_21)) (ks := (((0 + 7) + s_10) + s_22)) rfl rfl ?_))
  have hb := Bd.ade hb ea_24 eb_25
  obtain ⟨v_28, e_29, hf⟩ := rb_bd hf
  refine rb_hlen (t := 0) C rfl e_29 dX1_values_11 ?_
  cases hf
  exact rb_iret C rfl rfl hb.e.2.1 hb.e.2.2 dX1_values_12 ⟨rfl, rfl, hb.e.1, rfl⟩
def f_X1_sunShare (Ev : rb_E) (h : AH) (n : Nat) (o : Nat) : Option ((UInt32 ⊕ (String × Nat)) × AH × Nat × Nat) := ((hp_k Ev h o 0).bind fun u_1 => ((f_X1_length Ev h o).bind fun v_4 => (if v_4 = 0 then (some (.inr ("java/lang/ArithmeticException", n), h, 1, 6)) else ((hp_p Ev h o 0 0).bind fun v_7 => ((hp_p Ev h v_7 1 0).bind fun v_9 => ((hp_k Ev h v_9 13).bind fun u_11 => ((f_J1_toString Ev h n v_9).bind fun (r_14, h_15, k_16, s_17) => (ad k_16 s_17 ((f_X1_count Ev h_15 r_14 40).bind fun v_24 => ((f_X1_count Ev h_15 r_14 41).bind fun v_27 => ((hp_k Ev h_15 o 0).bind fun u_29 => ((f_X1_length Ev h_15 o).bind fun v_32 => (if ((FP.fdiv (FP.i2f (v_24 + v_27)) (FP.i2f v_32)) &&& 0x7fffffff ≤ 0x7f800000) then (some (.inl (FP.fdiv (FP.i2f (v_24 + v_27)) (FP.i2f v_32)), h_15, 0, 0)) else none)))))))))))))
abbrev rm_X1_sunShare (k s : Nat) : Room := { frames := 8, cells := k, slots := s, locals := 196 }
set_option maxHeartbeats 4000000 in
theorem ct_X1_sunShare (Ev : rb_E) (h : AH) (n : Nat) (o : Nat) (r : UInt32 ⊕ (String × Nat)) (h' : AH) (k s : Nat) (hf : f_X1_sunShare Ev h n o = some (r, h', k, s)) : Ct Ev yX1_sunShare (ws_ yX1_sunShare cX1_sunShare 2 (some .float)) (rm_X1_sunShare k s) [.ref o] h n (pX (rMap (fun v => some (.float v)) r) h' (n + k)) := by
  rw [f_X1_sunShare] at hf
  refine Ct.of rfl (Nat.le_of_ble_eq_true rfl) fun X C hnm => ?_
  have C : Cx Ev X RX1 cX1_sunShare 2 (some .float) [] := C
  show Wa Ev X (rm_X1_sunShare k s) 2 h n 0 0 (rb_MQ Ev X (rm_X1_sunShare k s) (pX (rMap (fun v => some (.float v)) r) h' (n + k))) 0 [(0, .ref o)] []
  have hb : Bd (n + k) k s n 0 0 k s := ⟨rfl, Nat.le_of_eq (Nat.zero_add _), Nat.le_of_eq (Nat.zero_add _)⟩
  refine rb_aload_n C dX1_sunShare_0 rfl 0 rfl ?_
  obtain ⟨u_1, e_2, hf⟩ := rb_bd hf
  obtain ⟨v_4, e_5, hf⟩ := rb_bd hf
  refine rb_callV (As := []) (rest := []) C mi_X1_length sv_X1_188 (hp_k_isC C.pf e_2 ck_X1) (ct_X1_length Ev h n o _ e_5) rfl rfl (Nat.le_of_ble_eq_true rfl) ⟨Nat.le_of_ble_eq_true rfl, Nat.le_of_ble_eq_true rfl, hb.c0, hb.s0⟩ dX1_sunShare_1 rb_xXi (rb_kXi fun hn_3 => (rb_w (kc := 0) (ks := 0) rfl rfl ?_))
  refine rb_if_ne (tgt := 15) C dX1_sunShare_4 (by decide) (fun c_6 => ?_) (fun c_6 => ?_)
  · have hf := (if_neg c_6).symm.trans hf
    refine rb_aload_n C dX1_sunShare_15 rfl 0 rfl ?_
    obtain ⟨v_7, e_8, hf⟩ := rb_bd hf
    refine rb_hP C fl_X1_104_X1 e_8 dX1_sunShare_16 ?_
    obtain ⟨v_9, e_10, hf⟩ := rb_bd hf
    refine rb_hP C fl_X1_182_X2 e_10 dX1_sunShare_19 ?_
    obtain ⟨u_11, e_12, hf⟩ := rb_bd hf
    obtain ⟨⟨r_14, h_15, k_16, s_17⟩, e_18, hf⟩ := rb_bd hf
    obtain ⟨a_21, b_22, hf, ea_19, eb_20⟩ := ad_at hf
    refine rb_callV (As := []) (rest := []) C mi_J1_toString sv_X1_78 (hp_k_isC C.pf e_12 ck_J1) (ct_J1_toString Ev h n v_9 r_14 _ _ _ e_18) rfl rfl (Nat.le_of_ble_eq_true rfl) ⟨Nat.le_of_ble_eq_true rfl, Nat.le_of_ble_eq_true rfl, Bd.c1 hb ea_19, Bd.s1 hb eb_20⟩ dX1_sunShare_22 rb_xX (rb_kX (rb_w (kc := (0 + k_16)) (ks := (0 + s_17)) rfl rfl ?_))
    have hb := Bd.ade hb ea_19 eb_20
    refine rb_astore_n (lv' := [(1, .ref r_14), (0, .ref o)]) C dX1_sunShare_25 rfl (by decide) rfl ?_
    refine rb_aload_n C dX1_sunShare_26 rfl 0 rfl ?_
    refine rb_bipush (v := 40) C dX1_sunShare_27 rfl ?_
    obtain ⟨v_24, e_25, hf⟩ := rb_bd hf
    refine rb_callS (As := [.ref r_14, .int 40]) (rest := []) C mi_X1_count ss_X1_259 (ct_X1_count Ev h_15 (n + k_16) r_14 40 _ e_25) rfl rfl (Nat.le_of_ble_eq_true rfl) ⟨Nat.le_of_ble_eq_true rfl, Nat.le_of_ble_eq_true rfl, hb.c0, hb.s0⟩ dX1_sunShare_29 rb_xXi (rb_kXi fun hn_23 => (rb_w (kc := (0 + k_16)) (ks := (0 + s_17)) rfl rfl ?_))
    refine rb_aload_n C dX1_sunShare_32 rfl 0 rfl ?_
    refine rb_bipush (v := 41) C dX1_sunShare_33 rfl ?_
    obtain ⟨v_27, e_28, hf⟩ := rb_bd hf
    refine rb_callS (As := [.ref r_14, .int 41]) (rest := [.int v_24]) C mi_X1_count ss_X1_259 (ct_X1_count Ev h_15 (n + k_16) r_14 41 _ e_28) rfl rfl (Nat.le_of_ble_eq_true rfl) ⟨Nat.le_of_ble_eq_true rfl, Nat.le_of_ble_eq_true rfl, hb.c0, hb.s0⟩ dX1_sunShare_35 rb_xXi (rb_kXi fun hn_26 => (rb_w (kc := (0 + k_16)) (ks := (0 + s_17)) rfl rfl ?_))
    refine rb_iadd C dX1_sunShare_38 ?_
    refine rb_i2f C dX1_sunShare_39 ?_
    refine rb_aload_n C dX1_sunShare_40 rfl 1 rfl ?_
    obtain ⟨u_29, e_30, hf⟩ := rb_bd hf
    obtain ⟨v_32, e_33, hf⟩ := rb_bd hf
    refine rb_callV (As := []) (rest := [.float (FP.i2f (v_24 + v_27))]) C mi_X1_length sv_X1_188 (hp_k_isC C.pf e_30 ck_X1) (ct_X1_length Ev h_15 (n + k_16) o _ e_33) rfl rfl (Nat.le_of_ble_eq_true rfl) ⟨Nat.le_of_ble_eq_true rfl, Nat.le_of_ble_eq_true rfl, hb.c0, hb.s0⟩ dX1_sunShare_41 rb_xXi (rb_kXi fun hn_31 => (rb_w (kc := (0 + k_16)) (ks := (0 + s_17)) rfl rfl ?_))
    refine rb_i2f C dX1_sunShare_44 ?_
    by_cases c_g_34 : ((FP.fdiv (FP.i2f (v_24 + v_27)) (FP.i2f v_32)) &&& 0x7fffffff ≤ 0x7f800000)
    rotate_left
    · exact absurd ((if_neg c_g_34).symm.trans hf) (fun z => by cases z)
    have hf := (if_pos c_g_34).symm.trans hf
    refine rb_fdiv C dX1_sunShare_45 c_g_34 ?_
    cases hf
    exact rb_fret C rfl hb.e.2.1 hb.e.2.2 dX1_sunShare_46 ⟨rfl, rfl, hb.e.1⟩
  · have hf := (if_pos c_6).symm.trans hf
    cases hf
    exact rb_hthrow0 C t0_X1_326 t0_X1_326k dX1_sunShare_7 dX1_sunShare_10 dX1_sunShare_11 dX1_sunShare_14 (fun _ z => absurd z List.not_mem_nil) (Nat.le_of_ble_eq_true rfl) (Nat.le_of_ble_eq_true rfl) (by have := hb.e.2.1; exact this) (by have := hb.e.2.2; exact this) ⟨rfl, rfl, (by have := hb.e.1; exact this)⟩
def f_X1_requireState (Ev : rb_E) (h : AH) (n : Nat) (x0 : Int32) : Option ((Unit ⊕ (String × Nat)) × AH × Nat × Nat) := (if x0 = 0 then (some (.inr ("java/lang/IllegalStateException", n), h, 1, 6)) else (some (.inl (), h, 0, 0)))
abbrev rm_X1_requireState (k s : Nat) : Room := { frames := 6, cells := k, slots := s, locals := 89 }
set_option maxHeartbeats 4000000 in
theorem ct_X1_requireState (Ev : rb_E) (h : AH) (n : Nat) (x0 : Int32) (r : Unit ⊕ (String × Nat)) (h' : AH) (k s : Nat) (hf : f_X1_requireState Ev h n x0 = some (r, h', k, s)) : Ct Ev yX1_requireState (ws_ yX1_requireState cX1_requireState 1 none) (rm_X1_requireState k s) [.int x0] h n (pX (rMap (fun _ => none) r) h' (n + k)) := by
  rw [f_X1_requireState] at hf
  refine Ct.of rfl (Nat.le_of_ble_eq_true rfl) fun X C hnm => ?_
  have C : Cx Ev X RX1 cX1_requireState 1 none [] := C
  show Wa Ev X (rm_X1_requireState k s) 1 h n 0 0 (rb_MQ Ev X (rm_X1_requireState k s) (pX (rMap (fun _ => none) r) h' (n + k))) 0 [(0, .int x0)] []
  have hb : Bd (n + k) k s n 0 0 k s := ⟨rfl, Nat.le_of_eq (Nat.zero_add _), Nat.le_of_eq (Nat.zero_add _)⟩
  refine rb_iload_n C dX1_requireState_0 rfl 0 rfl ?_
  refine rb_if_ne (tgt := 12) C dX1_requireState_1 (by decide) (fun c_1 => ?_) (fun c_1 => ?_)
  · have hf := (if_neg c_1).symm.trans hf
    cases hf
    exact rb_vret C rfl hb.e.2.1 hb.e.2.2 dX1_requireState_12 ⟨rfl, rfl, hb.e.1⟩
  · have hf := (if_pos c_1).symm.trans hf
    cases hf
    exact rb_hthrow0 C t0_X1_21 t0_X1_21k dX1_requireState_4 dX1_requireState_7 dX1_requireState_8 dX1_requireState_11 (fun _ z => absurd z List.not_mem_nil) (Nat.le_of_ble_eq_true rfl) (Nat.le_of_ble_eq_true rfl) (by have := hb.e.2.1; exact this) (by have := hb.e.2.2; exact this) ⟨rfl, rfl, (by have := hb.e.1; exact this)⟩
def f_X1_feed_j17_9 (Ev : rb_E) (o : Nat) (x1 : Int32) (h : AH) (n : Nat) (w0_j17_9 : Int32) : Option ((Int32 ⊕ (String × Nat)) × AH × Nat × Nat) := ((f_X1_requireState Ev h n w0_j17_9).bind fun (r_11, h_12, k_13, s_14) => (ad k_13 s_14 (match r_11 with | .inl v_20 => ((hp_p Ev h_12 o 0 2).bind fun v_23 => ((hp_k Ev h_12 v_23 13).bind fun u_25 => ((f_J1_append_7 Ev h_12 (n + k_13) v_23 x1).bind fun (r_28, h_29, k_30, s_31) => (ad k_30 s_31 ((hp_p Ev h_29 o 0 2).bind fun v_37 => ((hp_k Ev h_29 v_37 13).bind fun u_39 => ((f_J1_length Ev h_29 v_37).bind fun v_42 => (some (.inl v_42, h_29, 0, 0))))))))) | .inr (E_21, q_22) => (if E_21 = "java/lang/IllegalStateException" then (some (.inr ("java/lang/IllegalStateException", q_22), h_12, 0, 0)) else none))))
def f_X1_feed (Ev : rb_E) (h : AH) (n : Nat) (o : Nat) (x1 : Int32) : Option ((Int32 ⊕ (String × Nat)) × AH × Nat × Nat) := ((hp_p Ev h o 0 2).bind fun v_1 => ((hp_k Ev h v_1 13).bind fun u_3 => ((f_J1_length Ev h v_1).bind fun v_6 => (if 60 ≤ v_6 then (f_X1_feed_j17_9 Ev o x1 h n 0) else (f_X1_feed_j17_9 Ev o x1 h n 1)))))
abbrev rm_X1_feed (k s : Nat) : Room := { frames := 8, cells := k, slots := s, locals := 179 }
set_option maxHeartbeats 4000000 in
theorem ct_X1_feed (Ev : rb_E) (h : AH) (n : Nat) (o : Nat) (x1 : Int32) (r : Int32 ⊕ (String × Nat)) (h' : AH) (k s : Nat) (hf : f_X1_feed Ev h n o x1 = some (r, h', k, s)) : Ct Ev yX1_feed (ws_ yX1_feed cX1_feed 2 (some .int)) (rm_X1_feed k s) [.ref o, .int x1] h n (pX (rMap (fun v => some (.int v)) r) h' (n + k)) := by
  rw [f_X1_feed] at hf
  refine Ct.of rfl (Nat.le_of_ble_eq_true rfl) fun X C hnm => ?_
  have C : Cx Ev X RX1 cX1_feed 2 (some .int) [] := C
  show Wa Ev X (rm_X1_feed k s) 2 h n 0 0 (rb_MQ Ev X (rm_X1_feed k s) (pX (rMap (fun v => some (.int v)) r) h' (n + k))) 0 [(0, .ref o), (1, .int x1)] []
  have hb : Bd (n + k) k s n 0 0 k s := ⟨rfl, Nat.le_of_eq (Nat.zero_add _), Nat.le_of_eq (Nat.zero_add _)⟩
  refine rb_aload_n C dX1_feed_0 rfl 0 rfl ?_
  obtain ⟨v_1, e_2, hf⟩ := rb_bd hf
  refine rb_hP C fl_X1_115_X1 e_2 dX1_feed_1 ?_
  obtain ⟨u_3, e_4, hf⟩ := rb_bd hf
  obtain ⟨v_6, e_7, hf⟩ := rb_bd hf
  refine rb_callV (As := []) (rest := []) C mi_J1_length sv_X1_185 (hp_k_isC C.pf e_4 ck_J1) (ct_J1_length Ev h n v_1 _ e_7) rfl rfl (Nat.le_of_ble_eq_true rfl) ⟨Nat.le_of_ble_eq_true rfl, Nat.le_of_ble_eq_true rfl, hb.c0, hb.s0⟩ dX1_feed_4 rb_xXi (rb_kXi fun hn_5 => (rb_w (kc := 0) (ks := 0) rfl rfl ?_))
  refine rb_bipush (v := 60) C dX1_feed_7 rfl ?_
  have J_j17_9 : ∀ (w0_j17_9 : Int32) (kc_j17_9 ks_j17_9 a_ b_ : Nat), f_X1_feed_j17_9 Ev o x1 h n w0_j17_9 = some (r, h', a_, b_) → Bd (n + k) k s n kc_j17_9 ks_j17_9 a_ b_ → Wa Ev X (rm_X1_feed k s) 2 h n kc_j17_9 ks_j17_9 (rb_MQ Ev X (rm_X1_feed k s) (pX (rMap (fun v => some (.int v)) r) h' (n + k))) 17 [(0, .ref o), (1, .int x1)] [.int w0_j17_9] := by
    intro w0_j17_9 kc_j17_9 ks_j17_9 a_ b_ hf hb
    rw [f_X1_feed_j17_9] at hf
    obtain ⟨⟨r_11, h_12, k_13, s_14⟩, e_15, hf⟩ := rb_bd hf
    obtain ⟨a_18, b_19, hf, ea_16, eb_17⟩ := ad_at hf
    rcases r_11 with v_20 | ⟨E_21, q_22⟩
    · dsimp only at hf
      refine rb_callS (As := [.int w0_j17_9]) (rest := []) C mi_X1_requireState ss_X1_327 (ct_X1_requireState Ev h n w0_j17_9 (.inl v_20) _ _ _ e_15) rfl rfl (Nat.le_of_ble_eq_true rfl) ⟨Nat.le_of_ble_eq_true rfl, Nat.le_of_ble_eq_true rfl, Bd.c1 hb ea_16, Bd.s1 hb eb_17⟩ dX1_feed_17 rb_xX (rb_kX (r := none) (rb_w (kc := (kc_j17_9 + k_13)) (ks := (ks_j17_9 + s_14)) rfl rfl ?_))
      have hb := Bd.ade hb ea_16 eb_17
      refine rb_aload_n C dX1_feed_20 rfl 0 rfl ?_
      obtain ⟨v_23, e_24, hf⟩ := rb_bd hf
      refine rb_hP C fl_X1_115_X1 e_24 dX1_feed_21 ?_
      refine rb_iload_n C dX1_feed_24 rfl 1 rfl ?_
      obtain ⟨u_25, e_26, hf⟩ := rb_bd hf
      obtain ⟨⟨r_28, h_29, k_30, s_31⟩, e_32, hf⟩ := rb_bd hf
      obtain ⟨a_35, b_36, hf, ea_33, eb_34⟩ := ad_at hf
      refine rb_callV (As := [.int x1]) (rest := []) C mi_J1_append_7 sv_X1_88 (hp_k_isC C.pf e_26 ck_J1) (ct_J1_append_7 Ev h_12 (n + k_13) v_23 x1 r_28 _ _ _ e_32) rfl rfl (Nat.le_of_ble_eq_true rfl) ⟨Nat.le_of_ble_eq_true rfl, Nat.le_of_ble_eq_true rfl, Bd.c1 hb ea_33, Bd.s1 hb eb_34⟩ dX1_feed_25 rb_xX (rb_kX (rb_w (kc := ((kc_j17_9 + k_13) + k_30)) (ks := ((ks_j17_9 + s_14) + s_31)) rfl rfl ?_))
      have hb := Bd.ade hb ea_33 eb_34
      refine rb_pop C dX1_feed_28 rfl ?_
      refine rb_aload_n C dX1_feed_29 rfl 0 rfl ?_
      obtain ⟨v_37, e_38, hf⟩ := rb_bd hf
      refine rb_hP C fl_X1_115_X1 e_38 dX1_feed_30 ?_
      obtain ⟨u_39, e_40, hf⟩ := rb_bd hf
      obtain ⟨v_42, e_43, hf⟩ := rb_bd hf
      refine rb_callV (As := []) (rest := []) C mi_J1_length sv_X1_185 (hp_k_isC C.pf e_40 ck_J1) (ct_J1_length Ev h_29 ((n + k_13) + k_30) v_37 _ e_43) rfl rfl (Nat.le_of_ble_eq_true rfl) ⟨Nat.le_of_ble_eq_true rfl, Nat.le_of_ble_eq_true rfl, hb.c0, hb.s0⟩ dX1_feed_33 rb_xXi (rb_kXi fun hn_41 => (rb_w (kc := ((kc_j17_9 + k_13) + k_30)) (ks := ((ks_j17_9 + s_14) + s_31)) rfl rfl ?_))
      cases hf
      exact rb_iret C rfl rfl hb.e.2.1 hb.e.2.2 dX1_feed_36 ⟨rfl, rfl, hb.e.1⟩
    · dsimp only at hf
      by_cases c_44 : E_21 = "java/lang/IllegalStateException"
      · have hf := (if_pos c_44).symm.trans hf
        subst c_44
        refine rb_callS (As := [.int w0_j17_9]) (rest := []) C mi_X1_requireState ss_X1_327 (ct_X1_requireState Ev h n w0_j17_9 (.inr ("java/lang/IllegalStateException", q_22)) _ _ _ e_15) rfl rfl (Nat.le_of_ble_eq_true rfl) ⟨Nat.le_of_ble_eq_true rfl, Nat.le_of_ble_eq_true rfl, Bd.c1 hb ea_16, Bd.s1 hb eb_17⟩ dX1_feed_17 (rb_xY (E := "java/lang/IllegalStateException") (rb_wX (kc := (kc_j17_9 + k_13)) (ks := (ks_j17_9 + s_14)) rfl rfl ?_)) rb_kY
        have hb := Bd.ade hb ea_16 eb_17
        cases hf
        exact rb_out C (fun _ z => absurd z List.not_mem_nil) hb.e.2.1 hb.e.2.2 ⟨rfl, rfl, hb.e.1⟩
      have hf := (if_neg c_44).symm.trans hf
      cases hf
  refine rb_icmp_ge (tgt := 16) C dX1_feed_9 (by decide) (fun c_8 => ?_) (fun c_8 => ?_)
  · have hf := (if_pos c_8).symm.trans hf
    refine rb_iconst (v := 0) C dX1_feed_16 rfl ?_
    exact J_j17_9 0  _ _ _ _ hf hb
  · have hf := (if_neg c_8).symm.trans hf
    refine rb_iconst (v := 1) C dX1_feed_12 rfl ?_
    refine rb_goto (tgt := 17) C dX1_feed_13 (by decide) ?_
    exact J_j17_9 1  _ _ _ _ hf hb
def f_X13_init (Ev : rb_E) (h : AH) (n : Nat) (o : Nat) (x1 : Nat) : Option (Unit × AH × Nat × Nat) := ((hp_put h o 11 1 (.ref x1)).bind fun h_1 => (some ((), h_1, 0, 0)))
abbrev rm_X13_init (k s : Nat) : Room := { frames := 1, cells := k, slots := s, locals := 40 }
set_option maxHeartbeats 4000000 in
theorem ct_X13_init (Ev : rb_E) (h : AH) (n : Nat) (o : Nat) (x1 : Nat) (r : Unit) (h' : AH) (k s : Nat) (hf : f_X13_init Ev h n o x1 = some (r, h', k, s)) : Ct Ev yX13_init (ws_ yX13_init cX13_init 2 none) (rm_X13_init k s) [.ref o, .ref x1] h n (pX (.inl (none)) h' (n + k)) := by
  rw [f_X13_init] at hf
  refine Ct.of rfl (Nat.le_of_ble_eq_true rfl) fun X C hnm => ?_
  have C : Cx Ev X RX13 cX13_init 2 none [] := C
  show Wa Ev X (rm_X13_init k s) 2 h n 0 0 (rb_MQ Ev X (rm_X13_init k s) (pX (.inl (none)) h' (n + k))) 0 [(0, .ref o), (1, .ref x1)] []
  have hb : Bd (n + k) k s n 0 0 k s := ⟨rfl, Nat.le_of_eq (Nat.zero_add _), Nat.le_of_eq (Nat.zero_add _)⟩
  refine rb_aload_n C dX13_init_0 rfl 0 rfl ?_
  refine rb_aload_n C dX13_init_1 rfl 1 rfl ?_
  obtain ⟨h_1, e_2, hf⟩ := rb_bd hf
  refine rb_hputF C ff_X13_3_X13 hnm e_2 rfl rfl dX13_init_2 ?_
  refine rb_aload_n C dX13_init_5 rfl 0 rfl ?_
  refine rb_objInit C q1927 q123 q124 dX13_init_6 (Nat.le_of_ble_eq_true rfl) (Nat.le_of_ble_eq_true rfl) ?_
  cases hf
  exact rb_vret C rfl hb.e.2.1 hb.e.2.2 dX13_init_9 ⟨rfl, rfl, hb.e.1⟩
def f_J5_init_J27 (Ev : rb_E) (h : AH) (n : Nat) (o : Nat) : Option (Unit × AH × Nat × Nat) := (some ((), h, 0, 0))
abbrev rm_J5_init_J27 (k s : Nat) : Room := { frames := 1, cells := k, slots := s, locals := 40 }
set_option maxHeartbeats 4000000 in
theorem ct_J5_init_J27 (Ev : rb_E) (h : AH) (n : Nat) (o : Nat) (r : Unit) (h' : AH) (k s : Nat) (hf : f_J5_init_J27 Ev h n o = some (r, h', k, s)) : Ct Ev yJ5_init (ws_ yJ5_init cJ5_init 1 none) (rm_J5_init_J27 k s) [.ref o] h n (pX (.inl (none)) h' (n + k)) := by
  rw [f_J5_init_J27] at hf
  refine Ct.of rfl (Nat.le_of_ble_eq_true rfl) fun X C hnm => ?_
  have C : Cx Ev X RJ5 cJ5_init 1 none [] := C
  show Wa Ev X (rm_J5_init_J27 k s) 1 h n 0 0 (rb_MQ Ev X (rm_J5_init_J27 k s) (pX (.inl (none)) h' (n + k))) 0 [(0, .ref o)] []
  have hb : Bd (n + k) k s n 0 0 k s := ⟨rfl, Nat.le_of_eq (Nat.zero_add _), Nat.le_of_eq (Nat.zero_add _)⟩
  refine rb_aload_n C dJ5_init_0 rfl 0 rfl ?_
  refine rb_objInit C q212 q123 q124 dJ5_init_1 (Nat.le_of_ble_eq_true rfl) (Nat.le_of_ble_eq_true rfl) ?_
  cases hf
  exact rb_vret C rfl hb.e.2.1 hb.e.2.2 dJ5_init_4 ⟨rfl, rfl, hb.e.1⟩
def f_J26_init_J27 (Ev : rb_E) (h : AH) (n : Nat) (o : Nat) : Option (Unit × AH × Nat × Nat) := ((f_J5_init_J27 Ev h n o).bind fun (r_2, h_3, k_4, s_5) => (ad k_4 s_5 ((hp_put h_3 o 27 0 (.int 0)).bind fun h_11 => (some ((), h_11, 0, 0)))))
abbrev rm_J26_init_J27 (k s : Nat) : Room := { frames := 2, cells := k, slots := s, locals := 60 }
set_option maxHeartbeats 4000000 in
theorem ct_J26_init_J27 (Ev : rb_E) (h : AH) (n : Nat) (o : Nat) (r : Unit) (h' : AH) (k s : Nat) (hf : f_J26_init_J27 Ev h n o = some (r, h', k, s)) : Ct Ev yJ26_init (ws_ yJ26_init cJ26_init 1 none) (rm_J26_init_J27 k s) [.ref o] h n (pX (.inl (none)) h' (n + k)) := by
  rw [f_J26_init_J27] at hf
  refine Ct.of rfl (Nat.le_of_ble_eq_true rfl) fun X C hnm => ?_
  have C : Cx Ev X RJ26 cJ26_init 1 none [] := C
  show Wa Ev X (rm_J26_init_J27 k s) 1 h n 0 0 (rb_MQ Ev X (rm_J26_init_J27 k s) (pX (.inl (none)) h' (n + k))) 0 [(0, .ref o)] []
  have hb : Bd (n + k) k s n 0 0 k s := ⟨rfl, Nat.le_of_eq (Nat.zero_add _), Nat.le_of_eq (Nat.zero_add _)⟩
  refine rb_aload_n C dJ26_init_0 rfl 0 rfl ?_
  obtain ⟨⟨r_2, h_3, k_4, s_5⟩, e_6, hf⟩ := rb_bd hf
  obtain ⟨a_9, b_10, hf, ea_7, eb_8⟩ := ad_at hf
  refine rb_callI (As := []) (rest := []) C mi_J5_init si_J26_1 (ct_J5_init_J27 Ev h n o r_2 _ _ _ e_6) rfl rfl (Nat.le_of_ble_eq_true rfl) ⟨Nat.le_of_ble_eq_true rfl, Nat.le_of_ble_eq_true rfl, Bd.c1 hb ea_7, Bd.s1 hb eb_8⟩ dJ26_init_1 rb_xX (rb_kX (rb_w (kc := (0 + k_4)) (ks := (0 + s_5)) rfl rfl ?_))
  have hb := Bd.ade hb ea_7 eb_8
  refine rb_aload_n C dJ26_init_4 rfl 0 rfl ?_
  refine rb_iconst (v := 0) C dJ26_init_5 rfl ?_
  obtain ⟨h_11, e_12, hf⟩ := rb_bd hf
  refine rb_hput C fw_J26_7_J27 e_12 rfl rfl dJ26_init_6 ?_
  cases hf
  exact rb_vret C rfl hb.e.2.1 hb.e.2.2 dJ26_init_9 ⟨rfl, rfl, hb.e.1⟩
def f_J27_init (Ev : rb_E) (h : AH) (n : Nat) (o : Nat) : Option (Unit × AH × Nat × Nat) := ((f_J26_init_J27 Ev h n o).bind fun (r_2, h_3, k_4, s_5) => (ad k_4 s_5 ((hp_sp Ev "java/util/ArrayList" "DEFAULTCAPACITY_EMPTY_ELEMENTDATA").bind fun v_11 => ((hp_put h_3 o 27 1 (.ref v_11)).bind fun h_13 => (some ((), h_13, 0, 0))))))
abbrev rm_J27_init (k s : Nat) : Room := { frames := 3, cells := k, slots := s, locals := 80 }
set_option maxHeartbeats 4000000 in
theorem ct_J27_init (Ev : rb_E) (h : AH) (n : Nat) (o : Nat) (r : Unit) (h' : AH) (k s : Nat) (hf : f_J27_init Ev h n o = some (r, h', k, s)) : Ct Ev yJ27_init (ws_ yJ27_init cJ27_init 1 none) (rm_J27_init k s) [.ref o] h n (pX (.inl (none)) h' (n + k)) := by
  rw [f_J27_init] at hf
  refine Ct.of rfl (Nat.le_of_ble_eq_true rfl) fun X C hnm => ?_
  have C : Cx Ev X RJ27 cJ27_init 1 none [] := C
  show Wa Ev X (rm_J27_init k s) 1 h n 0 0 (rb_MQ Ev X (rm_J27_init k s) (pX (.inl (none)) h' (n + k))) 0 [(0, .ref o)] []
  have hb : Bd (n + k) k s n 0 0 k s := ⟨rfl, Nat.le_of_eq (Nat.zero_add _), Nat.le_of_eq (Nat.zero_add _)⟩
  refine rb_aload_n C dJ27_init_0 rfl 0 rfl ?_
  obtain ⟨⟨r_2, h_3, k_4, s_5⟩, e_6, hf⟩ := rb_bd hf
  obtain ⟨a_9, b_10, hf, ea_7, eb_8⟩ := ad_at hf
  refine rb_callI (As := []) (rest := []) C mi_J26_init si_J27_1 (ct_J26_init_J27 Ev h n o r_2 _ _ _ e_6) rfl rfl (Nat.le_of_ble_eq_true rfl) ⟨Nat.le_of_ble_eq_true rfl, Nat.le_of_ble_eq_true rfl, Bd.c1 hb ea_7, Bd.s1 hb eb_8⟩ dJ27_init_1 rb_xX (rb_kX (rb_w (kc := (0 + k_4)) (ks := (0 + s_5)) rfl rfl ?_))
  have hb := Bd.ade hb ea_7 eb_8
  refine rb_aload_n C dJ27_init_4 rfl 0 rfl ?_
  obtain ⟨v_11, e_12, hf⟩ := rb_bd hf
  refine rb_hsp C q1948 q1949 e_12 dJ27_init_5 ?_
  obtain ⟨h_13, e_14, hf⟩ := rb_bd hf
  refine rb_hput C fw_J27_9_J27 e_14 rfl rfl dJ27_init_8 ?_
  cases hf
  exact rb_vret C rfl hb.e.2.1 hb.e.2.2 dJ27_init_11 ⟨rfl, rfl, hb.e.1⟩
def f_J3_indexOfLatin1Unsafe_l161_11 (Ev : rb_E) (x0 : Nat) (x2 : Nat) (x3 : Int32) (h : AH) (y7_l95_4 : Int32) (rec_l95_4 : Int32 → Option Int32) : Nat → Int32 → Int32 → Option Int32
  | 0, _, _ => none
  | k_l161_11 + 1, y8_l161_11, y10_l161_11 => (if (((y7_l95_4 + 1) + x3) - 1) ≤ y8_l161_11 then (if y8_l161_11 = (((y7_l95_4 + 1) + x3) - 1) then (some y7_l95_4) else (rec_l95_4 (y7_l95_4 + 1))) else ((f_J3_getChar Ev h x0 y8_l161_11).bind fun v_15 => ((hp_bl Ev h x2 y10_l161_11).bind fun v_17 => (if v_15 = (v_17 &&& 255) then ((f_J3_indexOfLatin1Unsafe_l161_11 Ev x0 x2 x3 h y7_l95_4 rec_l95_4 k_l161_11) (y8_l161_11 + 1) (y10_l161_11 + 1)) else (if y8_l161_11 = (((y7_l95_4 + 1) + x3) - 1) then (some y7_l95_4) else (rec_l95_4 (y7_l95_4 + 1)))))))
def f_J3_indexOfLatin1Unsafe_l161_24 (Ev : rb_E) (x0 : Nat) (x2 : Nat) (x3 : Int32) (h : AH) (rec_l95_4 : Int32 → Option Int32) (y7_l113_21 : Int32) : Nat → Int32 → Int32 → Option Int32
  | 0, _, _ => none
  | k_l161_24 + 1, y8_l161_24, y10_l161_24 => (if ((((y7_l113_21 + 1) + 1) + x3) - 1) ≤ y8_l161_24 then (if y8_l161_24 = ((((y7_l113_21 + 1) + 1) + x3) - 1) then (some (y7_l113_21 + 1)) else (rec_l95_4 ((y7_l113_21 + 1) + 1))) else ((f_J3_getChar Ev h x0 y8_l161_24).bind fun v_28 => ((hp_bl Ev h x2 y10_l161_24).bind fun v_30 => (if v_28 = (v_30 &&& 255) then ((f_J3_indexOfLatin1Unsafe_l161_24 Ev x0 x2 x3 h rec_l95_4 y7_l113_21 k_l161_24) (y8_l161_24 + 1) (y10_l161_24 + 1)) else (if y8_l161_24 = ((((y7_l113_21 + 1) + 1) + x3) - 1) then (some (y7_l113_21 + 1)) else (rec_l95_4 ((y7_l113_21 + 1) + 1)))))))
def f_J3_indexOfLatin1Unsafe_l161_39 (Ev : rb_E) (x0 : Nat) (x2 : Nat) (x3 : Int32) (h : AH) (rec_l95_4 : Int32 → Option Int32) (y7_l113_21 : Int32) : Nat → Int32 → Int32 → Option Int32
  | 0, _, _ => none
  | k_l161_39 + 1, y8_l161_39, y10_l161_39 => (if ((((y7_l113_21 + 1) + 1) + x3) - 1) ≤ y8_l161_39 then (if y8_l161_39 = ((((y7_l113_21 + 1) + 1) + x3) - 1) then (some (y7_l113_21 + 1)) else (rec_l95_4 ((y7_l113_21 + 1) + 1))) else ((f_J3_getChar Ev h x0 y8_l161_39).bind fun v_43 => ((hp_bl Ev h x2 y10_l161_39).bind fun v_45 => (if v_43 = (v_45 &&& 255) then ((f_J3_indexOfLatin1Unsafe_l161_39 Ev x0 x2 x3 h rec_l95_4 y7_l113_21 k_l161_39) (y8_l161_39 + 1) (y10_l161_39 + 1)) else (if y8_l161_39 = ((((y7_l113_21 + 1) + 1) + x3) - 1) then (some (y7_l113_21 + 1)) else (rec_l95_4 ((y7_l113_21 + 1) + 1)))))))
def f_J3_indexOfLatin1Unsafe_l113_21 (Ev : rb_E) (x0 : Nat) (x1 : Int32) (x2 : Nat) (x3 : Int32) (h : AH) (v_1 : Int32) (rec_l95_4 : Int32 → Option Int32) : Nat → Int32 → Option Int32
  | 0, _ => none
  | k_l113_21 + 1, y7_l113_21 => (if (x1 - x3) < (y7_l113_21 + 1) then (if (x1 - x3) < (y7_l113_21 + 1) then (rec_l95_4 ((y7_l113_21 + 1) + 1)) else (f_J3_indexOfLatin1Unsafe_l161_24 Ev x0 x2 x3 h rec_l95_4 y7_l113_21 4096 ((y7_l113_21 + 1) + 1) 1)) else ((f_J3_getChar Ev h x0 (y7_l113_21 + 1)).bind fun v_35 => (if v_35 = ((v_1 &&& 255).toUInt32 % 65536).toInt32 then (if (x1 - x3) < (y7_l113_21 + 1) then (rec_l95_4 ((y7_l113_21 + 1) + 1)) else (f_J3_indexOfLatin1Unsafe_l161_39 Ev x0 x2 x3 h rec_l95_4 y7_l113_21 4096 ((y7_l113_21 + 1) + 1) 1)) else ((f_J3_indexOfLatin1Unsafe_l113_21 Ev x0 x1 x2 x3 h v_1 rec_l95_4 k_l113_21) (y7_l113_21 + 1)))))
def f_J3_indexOfLatin1Unsafe_l95_4 (Ev : rb_E) (x0 : Nat) (x1 : Int32) (x2 : Nat) (x3 : Int32) (h : AH) (v_1 : Int32) : Nat → Int32 → Option Int32
  | 0, _ => none
  | k_l95_4 + 1, y7_l95_4 => (if (x1 - x3) < y7_l95_4 then (some (-1)) else ((f_J3_getChar Ev h x0 y7_l95_4).bind fun v_7 => (if v_7 = ((v_1 &&& 255).toUInt32 % 65536).toInt32 then (if (x1 - x3) < y7_l95_4 then ((f_J3_indexOfLatin1Unsafe_l95_4 Ev x0 x1 x2 x3 h v_1 k_l95_4) (y7_l95_4 + 1)) else (f_J3_indexOfLatin1Unsafe_l161_11 Ev x0 x2 x3 h y7_l95_4 (f_J3_indexOfLatin1Unsafe_l95_4 Ev x0 x1 x2 x3 h v_1 k_l95_4) 4096 (y7_l95_4 + 1) 1)) else (f_J3_indexOfLatin1Unsafe_l113_21 Ev x0 x1 x2 x3 h v_1 (f_J3_indexOfLatin1Unsafe_l95_4 Ev x0 x1 x2 x3 h v_1 k_l95_4) 4096 y7_l95_4))))
def f_J3_indexOfLatin1Unsafe (Ev : rb_E) (h : AH) (x0 : Nat) (x1 : Int32) (x2 : Nat) (x3 : Int32) (x4 : Int32) : Option Int32 := ((hp_bl Ev h x2 0).bind fun v_1 => (f_J3_indexOfLatin1Unsafe_l95_4 Ev x0 x1 x2 x3 h v_1 4096 x4))
abbrev rm_J3_indexOfLatin1Unsafe : Room := { frames := 1, cells := 0, slots := 0, locals := 21 }
set_option maxHeartbeats 4000000 in
theorem ct_J3_indexOfLatin1Unsafe (Ev : rb_E) (h : AH) (n : Nat) (x0 : Nat) (x1 : Int32) (x2 : Nat) (x3 : Int32) (x4 : Int32) (r : Int32) (hf : f_J3_indexOfLatin1Unsafe Ev h x0 x1 x2 x3 x4 = some r) : Ct Ev yJ3_indexOfLatin1Unsafe (ws_ yJ3_indexOfLatin1Unsafe cJ3_indexOfLatin1Unsafe 11 (some .int)) (rm_J3_indexOfLatin1Unsafe) [.ref x0, .int x1, .ref x2, .int x3, .int x4] h n (pXi .int r h n) := by
  rw [f_J3_indexOfLatin1Unsafe] at hf
  refine Ct.of rfl (Nat.le_of_ble_eq_true rfl) fun X C hnm => ?_
  have C : Cx Ev X RJ3 cJ3_indexOfLatin1Unsafe 11 (some .int) [] := C
  show Wa Ev X (rm_J3_indexOfLatin1Unsafe) 11 h n 0 0 (rb_MQ Ev X (rm_J3_indexOfLatin1Unsafe) (pXi .int r h n)) 0 [(0, .ref x0), (1, .int x1), (2, .ref x2), (3, .int x3), (4, .int x4)] []
  refine rb_gets (v := .int 1) C q336 q337 (C.pf.2.2.1.2.2.2.1) dJ3_indexOfLatin1Unsafe_0 ?_
  refine rb_if_ne (tgt := 19) C dJ3_indexOfLatin1Unsafe_3 (by decide) (fun _ => ?_) (fun c => absurd c (by decide)) 
  refine rb_gets (v := .int 1) C q336 q337 (C.pf.2.2.1.2.2.2.1) dJ3_indexOfLatin1Unsafe_19 ?_
  refine rb_if_ne (tgt := 37) C dJ3_indexOfLatin1Unsafe_22 (by decide) (fun _ => ?_) (fun c => absurd c (by decide)) 
  refine rb_gets (v := .int 1) C q336 q337 (C.pf.2.2.1.2.2.2.1) dJ3_indexOfLatin1Unsafe_37 ?_
  refine rb_if_ne (tgt := 57) C dJ3_indexOfLatin1Unsafe_40 (by decide) (fun _ => ?_) (fun c => absurd c (by decide)) 
  refine rb_gets (v := .int 1) C q336 q337 (C.pf.2.2.1.2.2.2.1) dJ3_indexOfLatin1Unsafe_57 ?_
  refine rb_if_ne (tgt := 76) C dJ3_indexOfLatin1Unsafe_60 (by decide) (fun _ => ?_) (fun c => absurd c (by decide)) 
  refine rb_aload_n C dJ3_indexOfLatin1Unsafe_76 rfl 2 rfl ?_
  refine rb_iconst (v := 0) C dJ3_indexOfLatin1Unsafe_77 rfl ?_
  obtain ⟨v_1, e_2, hf⟩ := rb_bd hf
  refine rb_hbl C e_2 dJ3_indexOfLatin1Unsafe_78 ?_
  refine rb_sipush (v := 255) C dJ3_indexOfLatin1Unsafe_79 rfl ?_
  refine rb_iand C dJ3_indexOfLatin1Unsafe_82 ?_
  refine rb_i2c (v := ((v_1 &&& 255).toUInt32 % 65536).toInt32) C dJ3_indexOfLatin1Unsafe_83 rfl ?_
  have hc_3 : narrow .char (.int ((v_1 &&& 255).toUInt32 % 65536).toInt32) = .int ((v_1 &&& 255).toUInt32 % 65536).toInt32 := pk_nc (v_1 &&& 255)
  refine rb_istore (lv' := [(5, .int (((v_1 &&& 255).toUInt32 % 65536).toInt32)), (0, .ref x0), (1, .int x1), (2, .ref x2), (3, .int x3), (4, .int x4)]) C dJ3_indexOfLatin1Unsafe_84 (by decide) rfl ?_
  refine rb_iload_n C dJ3_indexOfLatin1Unsafe_86 rfl 2 rfl ?_
  refine rb_iload_n C dJ3_indexOfLatin1Unsafe_87 rfl 4 rfl ?_
  refine rb_isub C dJ3_indexOfLatin1Unsafe_88 ?_
  refine rb_istore (lv' := [(6, .int (x1 - x3)), (5, .int (((v_1 &&& 255).toUInt32 % 65536).toInt32)), (0, .ref x0), (1, .int x1), (2, .ref x2), (3, .int x3), (4, .int x4)]) C dJ3_indexOfLatin1Unsafe_89 (by decide) rfl ?_
  refine rb_iload C dJ3_indexOfLatin1Unsafe_91 6 rfl ?_
  refine rb_istore (lv' := [(7, .int x4), (6, .int (x1 - x3)), (5, .int (((v_1 &&& 255).toUInt32 % 65536).toInt32)), (0, .ref x0), (1, .int x1), (2, .ref x2), (3, .int x3), (4, .int x4)]) C dJ3_indexOfLatin1Unsafe_93 (by decide) rfl ?_
  have L_l95_4 : ∀ (k_l95_4 : Nat) (y7_l95_4 : Int32), f_J3_indexOfLatin1Unsafe_l95_4 Ev x0 x1 x2 x3 h v_1 k_l95_4 y7_l95_4 = some r → Wa Ev X (rm_J3_indexOfLatin1Unsafe) 11 h n 0 0 (rb_MQ Ev X (rm_J3_indexOfLatin1Unsafe) (pXi .int r h n)) 95 [(0, .ref x0), (1, .int x1), (2, .ref x2), (3, .int x3), (4, .int x4), (5, .int (((v_1 &&& 255).toUInt32 % 65536).toInt32)), (6, .int (x1 - x3)), (7, .int y7_l95_4)] [] := by
    intro k_l95_4
    induction k_l95_4 with
    | zero => intro y7_l95_4 hf; cases hf
    | succ k_l95_4 ih_l95_4 =>
      intro y7_l95_4 hf
      rw [f_J3_indexOfLatin1Unsafe_l95_4] at hf
      refine rb_iload C dJ3_indexOfLatin1Unsafe_95 7 rfl ?_
      refine rb_iload C dJ3_indexOfLatin1Unsafe_97 6 rfl ?_
      refine rb_icmp_gt (tgt := 210) C dJ3_indexOfLatin1Unsafe_99 (by decide) (fun c_5 => ?_) (fun c_5 => ?_)
      · have hf := (if_pos c_5).symm.trans hf
        refine rb_iconst (v := (-1)) C dJ3_indexOfLatin1Unsafe_210 rfl ?_
        cases hf
        exact rb_iret C rfl rfl (Nat.zero_le _) (Nat.zero_le _) dJ3_indexOfLatin1Unsafe_211 ⟨rfl, rfl, rfl, rfl⟩
      · have hf := (if_neg c_5).symm.trans hf
        refine rb_aload_n C dJ3_indexOfLatin1Unsafe_102 rfl 0 rfl ?_
        refine rb_iload C dJ3_indexOfLatin1Unsafe_103 7 rfl ?_
        obtain ⟨v_7, e_8, hf⟩ := rb_bd hf
        refine rb_callS (As := [.ref x0, .int y7_l95_4]) (rest := []) C mi_J3_getChar ss_J3_71 (ct_J3_getChar Ev h n x0 y7_l95_4 _ e_8) rfl rfl (Nat.le_of_ble_eq_true rfl) ⟨Nat.le_of_ble_eq_true rfl, Nat.le_of_ble_eq_true rfl, (Nat.zero_le _), (Nat.zero_le _)⟩ dJ3_indexOfLatin1Unsafe_105 rb_xXi (rb_kXi fun hn_6 => (rb_w (kc := 0) (ks := 0) rfl rfl ?_))
        refine rb_iload C dJ3_indexOfLatin1Unsafe_108 5 rfl ?_
        refine rb_icmp_eq (tgt := 137) C dJ3_indexOfLatin1Unsafe_110 (by decide) (fun c_9 => ?_) (fun c_9 => ?_)
        · have hf := (if_pos c_9).symm.trans hf
          refine rb_iload C dJ3_indexOfLatin1Unsafe_137 7 rfl ?_
          refine rb_iload C dJ3_indexOfLatin1Unsafe_139 6 rfl ?_
          refine rb_icmp_gt (tgt := 204) C dJ3_indexOfLatin1Unsafe_141 (by decide) (fun c_10 => ?_) (fun c_10 => ?_)
          · have hf := (if_pos c_10).symm.trans hf
            refine rb_iinc (v := (y7_l95_4 + 1)) (lv' := [(7, .int (y7_l95_4 + 1)), (0, .ref x0), (1, .int x1), (2, .ref x2), (3, .int x3), (4, .int x4), (5, .int (((v_1 &&& 255).toUInt32 % 65536).toInt32)), (6, .int (x1 - x3))]) C dJ3_indexOfLatin1Unsafe_204 (k := 7) rfl rfl (by decide) rfl ?_
            refine rb_goto (tgt := 95) C dJ3_indexOfLatin1Unsafe_207 (by decide) ?_
            refine rb_sub [1, 2, 3, 4, 5, 6, 7, 0] rfl ?_
            exact ih_l95_4 (y7_l95_4 + 1) hf
          · have hf := (if_neg c_10).symm.trans hf
            refine rb_iload C dJ3_indexOfLatin1Unsafe_144 7 rfl ?_
            refine rb_iconst (v := 1) C dJ3_indexOfLatin1Unsafe_146 rfl ?_
            refine rb_iadd C dJ3_indexOfLatin1Unsafe_147 ?_
            refine rb_istore (lv' := [(8, .int (y7_l95_4 + 1)), (0, .ref x0), (1, .int x1), (2, .ref x2), (3, .int x3), (4, .int x4), (5, .int (((v_1 &&& 255).toUInt32 % 65536).toInt32)), (6, .int (x1 - x3)), (7, .int y7_l95_4)]) C dJ3_indexOfLatin1Unsafe_148 (by decide) rfl ?_
            refine rb_iload C dJ3_indexOfLatin1Unsafe_150 0 rfl ?_
            refine rb_iload_n C dJ3_indexOfLatin1Unsafe_152 rfl 4 rfl ?_
            refine rb_iadd C dJ3_indexOfLatin1Unsafe_153 ?_
            refine rb_iconst (v := 1) C dJ3_indexOfLatin1Unsafe_154 rfl ?_
            refine rb_isub C dJ3_indexOfLatin1Unsafe_155 ?_
            refine rb_istore (lv' := [(9, .int (((y7_l95_4 + 1) + x3) - 1)), (8, .int (y7_l95_4 + 1)), (0, .ref x0), (1, .int x1), (2, .ref x2), (3, .int x3), (4, .int x4), (5, .int (((v_1 &&& 255).toUInt32 % 65536).toInt32)), (6, .int (x1 - x3)), (7, .int y7_l95_4)]) C dJ3_indexOfLatin1Unsafe_156 (by decide) rfl ?_
            refine rb_iconst (v := 1) C dJ3_indexOfLatin1Unsafe_158 rfl ?_
            refine rb_istore (lv' := [(10, .int 1), (9, .int (((y7_l95_4 + 1) + x3) - 1)), (8, .int (y7_l95_4 + 1)), (0, .ref x0), (1, .int x1), (2, .ref x2), (3, .int x3), (4, .int x4), (5, .int (((v_1 &&& 255).toUInt32 % 65536).toInt32)), (6, .int (x1 - x3)), (7, .int y7_l95_4)]) C dJ3_indexOfLatin1Unsafe_159 (by decide) rfl ?_
            have L_l161_11 : ∀ (k_l161_11 : Nat) (y8_l161_11 : Int32) (y10_l161_11 : Int32), f_J3_indexOfLatin1Unsafe_l161_11 Ev x0 x2 x3 h y7_l95_4 (f_J3_indexOfLatin1Unsafe_l95_4 Ev x0 x1 x2 x3 h v_1 k_l95_4) k_l161_11 y8_l161_11 y10_l161_11 = some r → Wa Ev X (rm_J3_indexOfLatin1Unsafe) 11 h n 0 0 (rb_MQ Ev X (rm_J3_indexOfLatin1Unsafe) (pXi .int r h n)) 161 [(0, .ref x0), (1, .int x1), (2, .ref x2), (3, .int x3), (4, .int x4), (5, .int (((v_1 &&& 255).toUInt32 % 65536).toInt32)), (6, .int (x1 - x3)), (7, .int y7_l95_4), (8, .int y8_l161_11), (9, .int (((y7_l95_4 + 1) + x3) - 1)), (10, .int y10_l161_11)] [] := by
              intro k_l161_11
              induction k_l161_11 with
              | zero => intro y8_l161_11 y10_l161_11 hf; cases hf
              | succ k_l161_11 ih_l161_11 =>
                intro y8_l161_11 y10_l161_11 hf
                rw [f_J3_indexOfLatin1Unsafe_l161_11] at hf
                refine rb_iload C dJ3_indexOfLatin1Unsafe_161 8 rfl ?_
                refine rb_iload C dJ3_indexOfLatin1Unsafe_163 9 rfl ?_
                refine rb_icmp_ge (tgt := 194) C dJ3_indexOfLatin1Unsafe_165 (by decide) (fun c_12 => ?_) (fun c_12 => ?_)
                · have hf := (if_pos c_12).symm.trans hf
                  refine rb_iload C dJ3_indexOfLatin1Unsafe_194 8 rfl ?_
                  refine rb_iload C dJ3_indexOfLatin1Unsafe_196 9 rfl ?_
                  refine rb_icmp_ne (tgt := 204) C dJ3_indexOfLatin1Unsafe_198 (by decide) (fun c_13 => ?_) (fun c_13 => ?_)
                  · have hf := (if_neg c_13).symm.trans hf
                    refine rb_iinc (v := (y7_l95_4 + 1)) (lv' := [(7, .int (y7_l95_4 + 1)), (0, .ref x0), (1, .int x1), (2, .ref x2), (3, .int x3), (4, .int x4), (5, .int (((v_1 &&& 255).toUInt32 % 65536).toInt32)), (6, .int (x1 - x3)), (8, .int y8_l161_11), (9, .int (((y7_l95_4 + 1) + x3) - 1)), (10, .int y10_l161_11)]) C dJ3_indexOfLatin1Unsafe_204 (k := 7) rfl rfl (by decide) rfl ?_
                    refine rb_goto (tgt := 95) C dJ3_indexOfLatin1Unsafe_207 (by decide) ?_
                    refine rb_sub [1, 2, 3, 4, 5, 6, 7, 0] rfl ?_
                    exact ih_l95_4 (y7_l95_4 + 1) hf
                  · have hf := (if_pos c_13).symm.trans hf
                    refine rb_iload C dJ3_indexOfLatin1Unsafe_201 7 rfl ?_
                    cases hf
                    exact rb_iret C rfl rfl (Nat.zero_le _) (Nat.zero_le _) dJ3_indexOfLatin1Unsafe_203 ⟨rfl, rfl, rfl, rfl⟩
                · have hf := (if_neg c_12).symm.trans hf
                  refine rb_aload_n C dJ3_indexOfLatin1Unsafe_168 rfl 0 rfl ?_
                  refine rb_iload C dJ3_indexOfLatin1Unsafe_169 8 rfl ?_
                  obtain ⟨v_15, e_16, hf⟩ := rb_bd hf
                  refine rb_callS (As := [.ref x0, .int y8_l161_11]) (rest := []) C mi_J3_getChar ss_J3_71 (ct_J3_getChar Ev h n x0 y8_l161_11 _ e_16) rfl rfl (Nat.le_of_ble_eq_true rfl) ⟨Nat.le_of_ble_eq_true rfl, Nat.le_of_ble_eq_true rfl, (Nat.zero_le _), (Nat.zero_le _)⟩ dJ3_indexOfLatin1Unsafe_171 rb_xXi (rb_kXi fun hn_14 => (rb_w (kc := 0) (ks := 0) rfl rfl ?_))
                  refine rb_aload_n C dJ3_indexOfLatin1Unsafe_174 rfl 2 rfl ?_
                  refine rb_iload C dJ3_indexOfLatin1Unsafe_175 10 rfl ?_
                  obtain ⟨v_17, e_18, hf⟩ := rb_bd hf
                  refine rb_hbl C e_18 dJ3_indexOfLatin1Unsafe_177 ?_
                  refine rb_sipush (v := 255) C dJ3_indexOfLatin1Unsafe_178 rfl ?_
                  refine rb_iand C dJ3_indexOfLatin1Unsafe_181 ?_
                  refine rb_icmp_ne (tgt := 194) C dJ3_indexOfLatin1Unsafe_182 (by decide) (fun c_19 => ?_) (fun c_19 => ?_)
                  · have hf := (if_neg c_19).symm.trans hf
                    refine rb_iload C dJ3_indexOfLatin1Unsafe_194 8 rfl ?_
                    refine rb_iload C dJ3_indexOfLatin1Unsafe_196 9 rfl ?_
                    refine rb_icmp_ne (tgt := 204) C dJ3_indexOfLatin1Unsafe_198 (by decide) (fun c_20 => ?_) (fun c_20 => ?_)
                    · have hf := (if_neg c_20).symm.trans hf
                      refine rb_iinc (v := (y7_l95_4 + 1)) (lv' := [(7, .int (y7_l95_4 + 1)), (0, .ref x0), (1, .int x1), (2, .ref x2), (3, .int x3), (4, .int x4), (5, .int (((v_1 &&& 255).toUInt32 % 65536).toInt32)), (6, .int (x1 - x3)), (8, .int y8_l161_11), (9, .int (((y7_l95_4 + 1) + x3) - 1)), (10, .int y10_l161_11)]) C dJ3_indexOfLatin1Unsafe_204 (k := 7) rfl rfl (by decide) rfl ?_
                      refine rb_goto (tgt := 95) C dJ3_indexOfLatin1Unsafe_207 (by decide) ?_
                      refine rb_sub [1, 2, 3, 4, 5, 6, 7, 0] rfl ?_
                      exact ih_l95_4 (y7_l95_4 + 1) hf
                    · have hf := (if_pos c_20).symm.trans hf
                      refine rb_iload C dJ3_indexOfLatin1Unsafe_201 7 rfl ?_
                      cases hf
                      exact rb_iret C rfl rfl (Nat.zero_le _) (Nat.zero_le _) dJ3_indexOfLatin1Unsafe_203 ⟨rfl, rfl, rfl, rfl⟩
                  · have hf := (if_pos c_19).symm.trans hf
                    refine rb_iinc (v := (y8_l161_11 + 1)) (lv' := [(8, .int (y8_l161_11 + 1)), (0, .ref x0), (1, .int x1), (2, .ref x2), (3, .int x3), (4, .int x4), (5, .int (((v_1 &&& 255).toUInt32 % 65536).toInt32)), (6, .int (x1 - x3)), (7, .int y7_l95_4), (9, .int (((y7_l95_4 + 1) + x3) - 1)), (10, .int y10_l161_11)]) C dJ3_indexOfLatin1Unsafe_185 (k := 8) rfl rfl (by decide) rfl ?_
                    refine rb_iinc (v := (y10_l161_11 + 1)) (lv' := [(10, .int (y10_l161_11 + 1)), (8, .int (y8_l161_11 + 1)), (0, .ref x0), (1, .int x1), (2, .ref x2), (3, .int x3), (4, .int x4), (5, .int (((v_1 &&& 255).toUInt32 % 65536).toInt32)), (6, .int (x1 - x3)), (7, .int y7_l95_4), (9, .int (((y7_l95_4 + 1) + x3) - 1))]) C dJ3_indexOfLatin1Unsafe_188 (k := 10) rfl rfl (by decide) rfl ?_
                    refine rb_goto (tgt := 161) C dJ3_indexOfLatin1Unsafe_191 (by decide) ?_
                    refine rb_sub [2, 3, 4, 5, 6, 7, 8, 9, 1, 10, 0] rfl ?_
                    exact ih_l161_11 (y8_l161_11 + 1) (y10_l161_11 + 1) hf
            refine rb_sub [3, 4, 5, 6, 7, 8, 9, 10, 2, 1, 0] rfl ?_
            exact L_l161_11 4096 (y7_l95_4 + 1) 1 hf
        · have hf := (if_neg c_9).symm.trans hf
          have L_l113_21 : ∀ (k_l113_21 : Nat) (y7_l113_21 : Int32), f_J3_indexOfLatin1Unsafe_l113_21 Ev x0 x1 x2 x3 h v_1 (f_J3_indexOfLatin1Unsafe_l95_4 Ev x0 x1 x2 x3 h v_1 k_l95_4) k_l113_21 y7_l113_21 = some r → Wa Ev X (rm_J3_indexOfLatin1Unsafe) 11 h n 0 0 (rb_MQ Ev X (rm_J3_indexOfLatin1Unsafe) (pXi .int r h n)) 113 [(0, .ref x0), (1, .int x1), (2, .ref x2), (3, .int x3), (4, .int x4), (5, .int (((v_1 &&& 255).toUInt32 % 65536).toInt32)), (6, .int (x1 - x3)), (7, .int y7_l113_21)] [] := by
            intro k_l113_21
            induction k_l113_21 with
            | zero => intro y7_l113_21 hf; cases hf
            | succ k_l113_21 ih_l113_21 =>
              intro y7_l113_21 hf
              rw [f_J3_indexOfLatin1Unsafe_l113_21] at hf
              refine rb_iinc (v := (y7_l113_21 + 1)) (lv' := [(7, .int (y7_l113_21 + 1)), (0, .ref x0), (1, .int x1), (2, .ref x2), (3, .int x3), (4, .int x4), (5, .int (((v_1 &&& 255).toUInt32 % 65536).toInt32)), (6, .int (x1 - x3))]) C dJ3_indexOfLatin1Unsafe_113 (k := 7) rfl rfl (by decide) rfl ?_
              refine rb_iload C dJ3_indexOfLatin1Unsafe_116 0 rfl ?_
              refine rb_iload C dJ3_indexOfLatin1Unsafe_118 7 rfl ?_
              refine rb_icmp_gt (tgt := 137) C dJ3_indexOfLatin1Unsafe_120 (by decide) (fun c_22 => ?_) (fun c_22 => ?_)
              · have hf := (if_pos c_22).symm.trans hf
                refine rb_iload C dJ3_indexOfLatin1Unsafe_137 0 rfl ?_
                refine rb_iload C dJ3_indexOfLatin1Unsafe_139 7 rfl ?_
                refine rb_icmp_gt (tgt := 204) C dJ3_indexOfLatin1Unsafe_141 (by decide) (fun c_23 => ?_) (fun c_23 => ?_)
                · have hf := (if_pos c_23).symm.trans hf
                  refine rb_iinc (v := ((y7_l113_21 + 1) + 1)) (lv' := [(7, .int ((y7_l113_21 + 1) + 1)), (0, .ref x0), (1, .int x1), (2, .ref x2), (3, .int x3), (4, .int x4), (5, .int (((v_1 &&& 255).toUInt32 % 65536).toInt32)), (6, .int (x1 - x3))]) C dJ3_indexOfLatin1Unsafe_204 (k := 0) rfl rfl (by decide) rfl ?_
                  refine rb_goto (tgt := 95) C dJ3_indexOfLatin1Unsafe_207 (by decide) ?_
                  refine rb_sub [1, 2, 3, 4, 5, 6, 7, 0] rfl ?_
                  exact ih_l95_4 ((y7_l113_21 + 1) + 1) hf
                · have hf := (if_neg c_23).symm.trans hf
                  refine rb_iload C dJ3_indexOfLatin1Unsafe_144 0 rfl ?_
                  refine rb_iconst (v := 1) C dJ3_indexOfLatin1Unsafe_146 rfl ?_
                  refine rb_iadd C dJ3_indexOfLatin1Unsafe_147 ?_
                  refine rb_istore (lv' := [(8, .int ((y7_l113_21 + 1) + 1)), (7, .int (y7_l113_21 + 1)), (0, .ref x0), (1, .int x1), (2, .ref x2), (3, .int x3), (4, .int x4), (5, .int (((v_1 &&& 255).toUInt32 % 65536).toInt32)), (6, .int (x1 - x3))]) C dJ3_indexOfLatin1Unsafe_148 (by decide) rfl ?_
                  refine rb_iload C dJ3_indexOfLatin1Unsafe_150 0 rfl ?_
                  refine rb_iload_n C dJ3_indexOfLatin1Unsafe_152 rfl 5 rfl ?_
                  refine rb_iadd C dJ3_indexOfLatin1Unsafe_153 ?_
                  refine rb_iconst (v := 1) C dJ3_indexOfLatin1Unsafe_154 rfl ?_
                  refine rb_isub C dJ3_indexOfLatin1Unsafe_155 ?_
                  refine rb_istore (lv' := [(9, .int ((((y7_l113_21 + 1) + 1) + x3) - 1)), (8, .int ((y7_l113_21 + 1) + 1)), (7, .int (y7_l113_21 + 1)), (0, .ref x0), (1, .int x1), (2, .ref x2), (3, .int x3), (4, .int x4), (5, .int (((v_1 &&& 255).toUInt32 % 65536).toInt32)), (6, .int (x1 - x3))]) C dJ3_indexOfLatin1Unsafe_156 (by decide) rfl ?_
                  refine rb_iconst (v := 1) C dJ3_indexOfLatin1Unsafe_158 rfl ?_
                  refine rb_istore (lv' := [(10, .int 1), (9, .int ((((y7_l113_21 + 1) + 1) + x3) - 1)), (8, .int ((y7_l113_21 + 1) + 1)), (7, .int (y7_l113_21 + 1)), (0, .ref x0), (1, .int x1), (2, .ref x2), (3, .int x3), (4, .int x4), (5, .int (((v_1 &&& 255).toUInt32 % 65536).toInt32)), (6, .int (x1 - x3))]) C dJ3_indexOfLatin1Unsafe_159 (by decide) rfl ?_
                  have L_l161_24 : ∀ (k_l161_24 : Nat) (y8_l161_24 : Int32) (y10_l161_24 : Int32), f_J3_indexOfLatin1Unsafe_l161_24 Ev x0 x2 x3 h (f_J3_indexOfLatin1Unsafe_l95_4 Ev x0 x1 x2 x3 h v_1 k_l95_4) y7_l113_21 k_l161_24 y8_l161_24 y10_l161_24 = some r → Wa Ev X (rm_J3_indexOfLatin1Unsafe) 11 h n 0 0 (rb_MQ Ev X (rm_J3_indexOfLatin1Unsafe) (pXi .int r h n)) 161 [(0, .ref x0), (1, .int x1), (2, .ref x2), (3, .int x3), (4, .int x4), (5, .int (((v_1 &&& 255).toUInt32 % 65536).toInt32)), (6, .int (x1 - x3)), (7, .int (y7_l113_21 + 1)), (8, .int y8_l161_24), (9, .int ((((y7_l113_21 + 1) + 1) + x3) - 1)), (10, .int y10_l161_24)] [] := by
                    intro k_l161_24
                    induction k_l161_24 with
                    | zero => intro y8_l161_24 y10_l161_24 hf; cases hf
                    | succ k_l161_24 ih_l161_24 =>
                      intro y8_l161_24 y10_l161_24 hf
                      rw [f_J3_indexOfLatin1Unsafe_l161_24] at hf
                      refine rb_iload C dJ3_indexOfLatin1Unsafe_161 8 rfl ?_
                      refine rb_iload C dJ3_indexOfLatin1Unsafe_163 9 rfl ?_
                      refine rb_icmp_ge (tgt := 194) C dJ3_indexOfLatin1Unsafe_165 (by decide) (fun c_25 => ?_) (fun c_25 => ?_)
                      · have hf := (if_pos c_25).symm.trans hf
                        refine rb_iload C dJ3_indexOfLatin1Unsafe_194 8 rfl ?_
                        refine rb_iload C dJ3_indexOfLatin1Unsafe_196 9 rfl ?_
                        refine rb_icmp_ne (tgt := 204) C dJ3_indexOfLatin1Unsafe_198 (by decide) (fun c_26 => ?_) (fun c_26 => ?_)
                        · have hf := (if_neg c_26).symm.trans hf
                          refine rb_iinc (v := ((y7_l113_21 + 1) + 1)) (lv' := [(7, .int ((y7_l113_21 + 1) + 1)), (0, .ref x0), (1, .int x1), (2, .ref x2), (3, .int x3), (4, .int x4), (5, .int (((v_1 &&& 255).toUInt32 % 65536).toInt32)), (6, .int (x1 - x3)), (8, .int y8_l161_24), (9, .int ((((y7_l113_21 + 1) + 1) + x3) - 1)), (10, .int y10_l161_24)]) C dJ3_indexOfLatin1Unsafe_204 (k := 7) rfl rfl (by decide) rfl ?_
                          refine rb_goto (tgt := 95) C dJ3_indexOfLatin1Unsafe_207 (by decide) ?_
                          refine rb_sub [1, 2, 3, 4, 5, 6, 7, 0] rfl ?_
                          exact ih_l95_4 ((y7_l113_21 + 1) + 1) hf
                        · have hf := (if_pos c_26).symm.trans hf
                          refine rb_iload C dJ3_indexOfLatin1Unsafe_201 7 rfl ?_
                          cases hf
                          exact rb_iret C rfl rfl (Nat.zero_le _) (Nat.zero_le _) dJ3_indexOfLatin1Unsafe_203 ⟨rfl, rfl, rfl, rfl⟩
                      · have hf := (if_neg c_25).symm.trans hf
                        refine rb_aload_n C dJ3_indexOfLatin1Unsafe_168 rfl 0 rfl ?_
                        refine rb_iload C dJ3_indexOfLatin1Unsafe_169 8 rfl ?_
                        obtain ⟨v_28, e_29, hf⟩ := rb_bd hf
                        refine rb_callS (As := [.ref x0, .int y8_l161_24]) (rest := []) C mi_J3_getChar ss_J3_71 (ct_J3_getChar Ev h n x0 y8_l161_24 _ e_29) rfl rfl (Nat.le_of_ble_eq_true rfl) ⟨Nat.le_of_ble_eq_true rfl, Nat.le_of_ble_eq_true rfl, (Nat.zero_le _), (Nat.zero_le _)⟩ dJ3_indexOfLatin1Unsafe_171 rb_xXi (rb_kXi fun hn_27 => (rb_w (kc := 0) (ks := 0) rfl rfl ?_))
                        refine rb_aload_n C dJ3_indexOfLatin1Unsafe_174 rfl 2 rfl ?_
                        refine rb_iload C dJ3_indexOfLatin1Unsafe_175 10 rfl ?_
                        obtain ⟨v_30, e_31, hf⟩ := rb_bd hf
                        refine rb_hbl C e_31 dJ3_indexOfLatin1Unsafe_177 ?_
                        refine rb_sipush (v := 255) C dJ3_indexOfLatin1Unsafe_178 rfl ?_
                        refine rb_iand C dJ3_indexOfLatin1Unsafe_181 ?_
                        refine rb_icmp_ne (tgt := 194) C dJ3_indexOfLatin1Unsafe_182 (by decide) (fun c_32 => ?_) (fun c_32 => ?_)
                        · have hf := (if_neg c_32).symm.trans hf
                          refine rb_iload C dJ3_indexOfLatin1Unsafe_194 8 rfl ?_
                          refine rb_iload C dJ3_indexOfLatin1Unsafe_196 9 rfl ?_
                          refine rb_icmp_ne (tgt := 204) C dJ3_indexOfLatin1Unsafe_198 (by decide) (fun c_33 => ?_) (fun c_33 => ?_)
                          · have hf := (if_neg c_33).symm.trans hf
                            refine rb_iinc (v := ((y7_l113_21 + 1) + 1)) (lv' := [(7, .int ((y7_l113_21 + 1) + 1)), (0, .ref x0), (1, .int x1), (2, .ref x2), (3, .int x3), (4, .int x4), (5, .int (((v_1 &&& 255).toUInt32 % 65536).toInt32)), (6, .int (x1 - x3)), (8, .int y8_l161_24), (9, .int ((((y7_l113_21 + 1) + 1) + x3) - 1)), (10, .int y10_l161_24)]) C dJ3_indexOfLatin1Unsafe_204 (k := 7) rfl rfl (by decide) rfl ?_
                            refine rb_goto (tgt := 95) C dJ3_indexOfLatin1Unsafe_207 (by decide) ?_
                            refine rb_sub [1, 2, 3, 4, 5, 6, 7, 0] rfl ?_
                            exact ih_l95_4 ((y7_l113_21 + 1) + 1) hf
                          · have hf := (if_pos c_33).symm.trans hf
                            refine rb_iload C dJ3_indexOfLatin1Unsafe_201 7 rfl ?_
                            cases hf
                            exact rb_iret C rfl rfl (Nat.zero_le _) (Nat.zero_le _) dJ3_indexOfLatin1Unsafe_203 ⟨rfl, rfl, rfl, rfl⟩
                        · have hf := (if_pos c_32).symm.trans hf
                          refine rb_iinc (v := (y8_l161_24 + 1)) (lv' := [(8, .int (y8_l161_24 + 1)), (0, .ref x0), (1, .int x1), (2, .ref x2), (3, .int x3), (4, .int x4), (5, .int (((v_1 &&& 255).toUInt32 % 65536).toInt32)), (6, .int (x1 - x3)), (7, .int (y7_l113_21 + 1)), (9, .int ((((y7_l113_21 + 1) + 1) + x3) - 1)), (10, .int y10_l161_24)]) C dJ3_indexOfLatin1Unsafe_185 (k := 8) rfl rfl (by decide) rfl ?_
                          refine rb_iinc (v := (y10_l161_24 + 1)) (lv' := [(10, .int (y10_l161_24 + 1)), (8, .int (y8_l161_24 + 1)), (0, .ref x0), (1, .int x1), (2, .ref x2), (3, .int x3), (4, .int x4), (5, .int (((v_1 &&& 255).toUInt32 % 65536).toInt32)), (6, .int (x1 - x3)), (7, .int (y7_l113_21 + 1)), (9, .int ((((y7_l113_21 + 1) + 1) + x3) - 1))]) C dJ3_indexOfLatin1Unsafe_188 (k := 10) rfl rfl (by decide) rfl ?_
                          refine rb_goto (tgt := 161) C dJ3_indexOfLatin1Unsafe_191 (by decide) ?_
                          refine rb_sub [2, 3, 4, 5, 6, 7, 8, 9, 1, 10, 0] rfl ?_
                          exact ih_l161_24 (y8_l161_24 + 1) (y10_l161_24 + 1) hf
                  refine rb_sub [4, 5, 6, 7, 8, 9, 10, 3, 2, 1, 0] rfl ?_
                  exact L_l161_24 4096 ((y7_l113_21 + 1) + 1) 1 hf
              · have hf := (if_neg c_22).symm.trans hf
                refine rb_aload_n C dJ3_indexOfLatin1Unsafe_123 rfl 1 rfl ?_
                refine rb_iload C dJ3_indexOfLatin1Unsafe_124 0 rfl ?_
                obtain ⟨v_35, e_36, hf⟩ := rb_bd hf
                refine rb_callS (As := [.ref x0, .int (y7_l113_21 + 1)]) (rest := []) C mi_J3_getChar ss_J3_71 (ct_J3_getChar Ev h n x0 (y7_l113_21 + 1) _ e_36) rfl rfl (Nat.le_of_ble_eq_true rfl) ⟨Nat.le_of_ble_eq_true rfl, Nat.le_of_ble_eq_true rfl, (Nat.zero_le _), (Nat.zero_le _)⟩ dJ3_indexOfLatin1Unsafe_126 rb_xXi (rb_kXi fun hn_34 => (rb_w (kc := 0) (ks := 0) rfl rfl ?_))
                refine rb_iload C dJ3_indexOfLatin1Unsafe_129 6 rfl ?_
                refine rb_icmp_eq (tgt := 137) C dJ3_indexOfLatin1Unsafe_131 (by decide) (fun c_37 => ?_) (fun c_37 => ?_)
                · have hf := (if_pos c_37).symm.trans hf
                  refine rb_iload C dJ3_indexOfLatin1Unsafe_137 0 rfl ?_
                  refine rb_iload C dJ3_indexOfLatin1Unsafe_139 7 rfl ?_
                  refine rb_icmp_gt (tgt := 204) C dJ3_indexOfLatin1Unsafe_141 (by decide) (fun c_38 => ?_) (fun c_38 => ?_)
                  · have hf := (if_pos c_38).symm.trans hf
                    refine rb_iinc (v := ((y7_l113_21 + 1) + 1)) (lv' := [(7, .int ((y7_l113_21 + 1) + 1)), (0, .ref x0), (1, .int x1), (2, .ref x2), (3, .int x3), (4, .int x4), (5, .int (((v_1 &&& 255).toUInt32 % 65536).toInt32)), (6, .int (x1 - x3))]) C dJ3_indexOfLatin1Unsafe_204 (k := 0) rfl rfl (by decide) rfl ?_
                    refine rb_goto (tgt := 95) C dJ3_indexOfLatin1Unsafe_207 (by decide) ?_
                    refine rb_sub [1, 2, 3, 4, 5, 6, 7, 0] rfl ?_
                    exact ih_l95_4 ((y7_l113_21 + 1) + 1) hf
                  · have hf := (if_neg c_38).symm.trans hf
                    refine rb_iload C dJ3_indexOfLatin1Unsafe_144 0 rfl ?_
                    refine rb_iconst (v := 1) C dJ3_indexOfLatin1Unsafe_146 rfl ?_
                    refine rb_iadd C dJ3_indexOfLatin1Unsafe_147 ?_
                    refine rb_istore (lv' := [(8, .int ((y7_l113_21 + 1) + 1)), (7, .int (y7_l113_21 + 1)), (0, .ref x0), (1, .int x1), (2, .ref x2), (3, .int x3), (4, .int x4), (5, .int (((v_1 &&& 255).toUInt32 % 65536).toInt32)), (6, .int (x1 - x3))]) C dJ3_indexOfLatin1Unsafe_148 (by decide) rfl ?_
                    refine rb_iload C dJ3_indexOfLatin1Unsafe_150 0 rfl ?_
                    refine rb_iload_n C dJ3_indexOfLatin1Unsafe_152 rfl 5 rfl ?_
                    refine rb_iadd C dJ3_indexOfLatin1Unsafe_153 ?_
                    refine rb_iconst (v := 1) C dJ3_indexOfLatin1Unsafe_154 rfl ?_
                    refine rb_isub C dJ3_indexOfLatin1Unsafe_155 ?_
                    refine rb_istore (lv' := [(9, .int ((((y7_l113_21 + 1) + 1) + x3) - 1)), (8, .int ((y7_l113_21 + 1) + 1)), (7, .int (y7_l113_21 + 1)), (0, .ref x0), (1, .int x1), (2, .ref x2), (3, .int x3), (4, .int x4), (5, .int (((v_1 &&& 255).toUInt32 % 65536).toInt32)), (6, .int (x1 - x3))]) C dJ3_indexOfLatin1Unsafe_156 (by decide) rfl ?_
                    refine rb_iconst (v := 1) C dJ3_indexOfLatin1Unsafe_158 rfl ?_
                    refine rb_istore (lv' := [(10, .int 1), (9, .int ((((y7_l113_21 + 1) + 1) + x3) - 1)), (8, .int ((y7_l113_21 + 1) + 1)), (7, .int (y7_l113_21 + 1)), (0, .ref x0), (1, .int x1), (2, .ref x2), (3, .int x3), (4, .int x4), (5, .int (((v_1 &&& 255).toUInt32 % 65536).toInt32)), (6, .int (x1 - x3))]) C dJ3_indexOfLatin1Unsafe_159 (by decide) rfl ?_
                    have L_l161_39 : ∀ (k_l161_39 : Nat) (y8_l161_39 : Int32) (y10_l161_39 : Int32), f_J3_indexOfLatin1Unsafe_l161_39 Ev x0 x2 x3 h (f_J3_indexOfLatin1Unsafe_l95_4 Ev x0 x1 x2 x3 h v_1 k_l95_4) y7_l113_21 k_l161_39 y8_l161_39 y10_l161_39 = some r → Wa Ev X (rm_J3_indexOfLatin1Unsafe) 11 h n 0 0 (rb_MQ Ev X (rm_J3_indexOfLatin1Unsafe) (pXi .int r h n)) 161 [(0, .ref x0), (1, .int x1), (2, .ref x2), (3, .int x3), (4, .int x4), (5, .int (((v_1 &&& 255).toUInt32 % 65536).toInt32)), (6, .int (x1 - x3)), (7, .int (y7_l113_21 + 1)), (8, .int y8_l161_39), (9, .int ((((y7_l113_21 + 1) + 1) + x3) - 1)), (10, .int y10_l161_39)] [] := by
                      intro k_l161_39
                      induction k_l161_39 with
                      | zero => intro y8_l161_39 y10_l161_39 hf; cases hf
                      | succ k_l161_39 ih_l161_39 =>
                        intro y8_l161_39 y10_l161_39 hf
                        rw [f_J3_indexOfLatin1Unsafe_l161_39] at hf
                        refine rb_iload C dJ3_indexOfLatin1Unsafe_161 8 rfl ?_
                        refine rb_iload C dJ3_indexOfLatin1Unsafe_163 9 rfl ?_
                        refine rb_icmp_ge (tgt := 194) C dJ3_indexOfLatin1Unsafe_165 (by decide) (fun c_40 => ?_) (fun c_40 => ?_)
                        · have hf := (if_pos c_40).symm.trans hf
                          refine rb_iload C dJ3_indexOfLatin1Unsafe_194 8 rfl ?_
                          refine rb_iload C dJ3_indexOfLatin1Unsafe_196 9 rfl ?_
                          refine rb_icmp_ne (tgt := 204) C dJ3_indexOfLatin1Unsafe_198 (by decide) (fun c_41 => ?_) (fun c_41 => ?_)
                          · have hf := (if_neg c_41).symm.trans hf
                            refine rb_iinc (v := ((y7_l113_21 + 1) + 1)) (lv' := [(7, .int ((y7_l113_21 + 1) + 1)), (0, .ref x0), (1, .int x1), (2, .ref x2), (3, .int x3), (4, .int x4), (5, .int (((v_1 &&& 255).toUInt32 % 65536).toInt32)), (6, .int (x1 - x3)), (8, .int y8_l161_39), (9, .int ((((y7_l113_21 + 1) + 1) + x3) - 1)), (10, .int y10_l161_39)]) C dJ3_indexOfLatin1Unsafe_204 (k := 7) rfl rfl (by decide) rfl ?_
                            refine rb_goto (tgt := 95) C dJ3_indexOfLatin1Unsafe_207 (by decide) ?_
                            refine rb_sub [1, 2, 3, 4, 5, 6, 7, 0] rfl ?_
                            exact ih_l95_4 ((y7_l113_21 + 1) + 1) hf
                          · have hf := (if_pos c_41).symm.trans hf
                            refine rb_iload C dJ3_indexOfLatin1Unsafe_201 7 rfl ?_
                            cases hf
                            exact rb_iret C rfl rfl (Nat.zero_le _) (Nat.zero_le _) dJ3_indexOfLatin1Unsafe_203 ⟨rfl, rfl, rfl, rfl⟩
                        · have hf := (if_neg c_40).symm.trans hf
                          refine rb_aload_n C dJ3_indexOfLatin1Unsafe_168 rfl 0 rfl ?_
                          refine rb_iload C dJ3_indexOfLatin1Unsafe_169 8 rfl ?_
                          obtain ⟨v_43, e_44, hf⟩ := rb_bd hf
                          refine rb_callS (As := [.ref x0, .int y8_l161_39]) (rest := []) C mi_J3_getChar ss_J3_71 (ct_J3_getChar Ev h n x0 y8_l161_39 _ e_44) rfl rfl (Nat.le_of_ble_eq_true rfl) ⟨Nat.le_of_ble_eq_true rfl, Nat.le_of_ble_eq_true rfl, (Nat.zero_le _), (Nat.zero_le _)⟩ dJ3_indexOfLatin1Unsafe_171 rb_xXi (rb_kXi fun hn_42 => (rb_w (kc := 0) (ks := 0) rfl rfl ?_))
                          refine rb_aload_n C dJ3_indexOfLatin1Unsafe_174 rfl 2 rfl ?_
                          refine rb_iload C dJ3_indexOfLatin1Unsafe_175 10 rfl ?_
                          obtain ⟨v_45, e_46, hf⟩ := rb_bd hf
                          refine rb_hbl C e_46 dJ3_indexOfLatin1Unsafe_177 ?_
                          refine rb_sipush (v := 255) C dJ3_indexOfLatin1Unsafe_178 rfl ?_
                          refine rb_iand C dJ3_indexOfLatin1Unsafe_181 ?_
                          refine rb_icmp_ne (tgt := 194) C dJ3_indexOfLatin1Unsafe_182 (by decide) (fun c_47 => ?_) (fun c_47 => ?_)
                          · have hf := (if_neg c_47).symm.trans hf
                            refine rb_iload C dJ3_indexOfLatin1Unsafe_194 8 rfl ?_
                            refine rb_iload C dJ3_indexOfLatin1Unsafe_196 9 rfl ?_
                            refine rb_icmp_ne (tgt := 204) C dJ3_indexOfLatin1Unsafe_198 (by decide) (fun c_48 => ?_) (fun c_48 => ?_)
                            · have hf := (if_neg c_48).symm.trans hf
                              refine rb_iinc (v := ((y7_l113_21 + 1) + 1)) (lv' := [(7, .int ((y7_l113_21 + 1) + 1)), (0, .ref x0), (1, .int x1), (2, .ref x2), (3, .int x3), (4, .int x4), (5, .int (((v_1 &&& 255).toUInt32 % 65536).toInt32)), (6, .int (x1 - x3)), (8, .int y8_l161_39), (9, .int ((((y7_l113_21 + 1) + 1) + x3) - 1)), (10, .int y10_l161_39)]) C dJ3_indexOfLatin1Unsafe_204 (k := 7) rfl rfl (by decide) rfl ?_
                              refine rb_goto (tgt := 95) C dJ3_indexOfLatin1Unsafe_207 (by decide) ?_
                              refine rb_sub [1, 2, 3, 4, 5, 6, 7, 0] rfl ?_
                              exact ih_l95_4 ((y7_l113_21 + 1) + 1) hf
                            · have hf := (if_pos c_48).symm.trans hf
                              refine rb_iload C dJ3_indexOfLatin1Unsafe_201 7 rfl ?_
                              cases hf
                              exact rb_iret C rfl rfl (Nat.zero_le _) (Nat.zero_le _) dJ3_indexOfLatin1Unsafe_203 ⟨rfl, rfl, rfl, rfl⟩
                          · have hf := (if_pos c_47).symm.trans hf
                            refine rb_iinc (v := (y8_l161_39 + 1)) (lv' := [(8, .int (y8_l161_39 + 1)), (0, .ref x0), (1, .int x1), (2, .ref x2), (3, .int x3), (4, .int x4), (5, .int (((v_1 &&& 255).toUInt32 % 65536).toInt32)), (6, .int (x1 - x3)), (7, .int (y7_l113_21 + 1)), (9, .int ((((y7_l113_21 + 1) + 1) + x3) - 1)), (10, .int y10_l161_39)]) C dJ3_indexOfLatin1Unsafe_185 (k := 8) rfl rfl (by decide) rfl ?_
                            refine rb_iinc (v := (y10_l161_39 + 1)) (lv' := [(10, .int (y10_l161_39 + 1)), (8, .int (y8_l161_39 + 1)), (0, .ref x0), (1, .int x1), (2, .ref x2), (3, .int x3), (4, .int x4), (5, .int (((v_1 &&& 255).toUInt32 % 65536).toInt32)), (6, .int (x1 - x3)), (7, .int (y7_l113_21 + 1)), (9, .int ((((y7_l113_21 + 1) + 1) + x3) - 1))]) C dJ3_indexOfLatin1Unsafe_188 (k := 10) rfl rfl (by decide) rfl ?_
                            refine rb_goto (tgt := 161) C dJ3_indexOfLatin1Unsafe_191 (by decide) ?_
                            refine rb_sub [2, 3, 4, 5, 6, 7, 8, 9, 1, 10, 0] rfl ?_
                            exact ih_l161_39 (y8_l161_39 + 1) (y10_l161_39 + 1) hf
                    refine rb_sub [4, 5, 6, 7, 8, 9, 10, 3, 2, 1, 0] rfl ?_
                    exact L_l161_39 4096 ((y7_l113_21 + 1) + 1) 1 hf
                · have hf := (if_neg c_37).symm.trans hf
                  refine rb_goto (tgt := 113) C dJ3_indexOfLatin1Unsafe_134 (by decide) ?_
                  refine rb_sub [1, 2, 3, 4, 5, 6, 7, 0] rfl ?_
                  exact ih_l113_21 (y7_l113_21 + 1) hf
          exact L_l113_21 4096 y7_l95_4 hf
  refine rb_sub [3, 4, 5, 6, 7, 2, 1, 0] rfl ?_
  exact L_l95_4 4096 x4 hf
