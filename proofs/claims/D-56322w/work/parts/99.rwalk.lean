set_option maxRecDepth 100000
set_option linter.unusedVariables false


def f_Y12_init_j159_109 (Ev : rb_E) (y3_l60_70 : Int32) (rec_l60_70 : Int32 → AH → Nat → Option ((Unit ⊕ (String × Nat)) × AH × Nat × Nat)) (v_103 : Nat) (w0_j159_109 : Nat) (h_j159_109 : AH) (n_j159_109 : Nat) : Option ((Unit ⊕ (String × Nat)) × AH × Nat × Nat) := ((hp_k Ev h_j159_109 v_103 13).bind fun u_110 => ((f_J1_append_3 Ev h_j159_109 n_j159_109 v_103 w0_j159_109).bind fun (r_113, h_114, k_115, s_116) => (ad k_115 s_116 (rec_l60_70 (y3_l60_70 + 1) h_114 (n_j159_109 + k_115)))))
def f_Y12_init_j118_90 (Ev : rb_E) (o : Nat) (y3_l60_70 : Int32) (rec_l60_70 : Int32 → AH → Nat → Option ((Unit ⊕ (String × Nat)) × AH × Nat × Nat)) (v_84 : Int32) (v_86 : Nat) (w0_j118_90 : Nat) (h_j118_90 : AH) (n_j118_90 : Nat) : Option ((Unit ⊕ (String × Nat)) × AH × Nat × Nat) := ((hp_k Ev h_j118_90 v_86 13).bind fun u_91 => ((f_J1_append_3 Ev h_j118_90 n_j118_90 v_86 w0_j118_90).bind fun (r_94, h_95, k_96, s_97) => (ad k_96 s_97 ((hp_p Ev h_95 o 10 1).bind fun v_103 => ((f_X1_isOperator Ev h_95 v_84).bind fun v_106 => (if v_106 = 0 then (f_Y12_init_j159_109 Ev y3_l60_70 rec_l60_70 v_103 (eS Ev RX12 64) h_95 (n_j118_90 + k_96)) else (ad 1 4 (rb_lt (va_up h_95 (n_j118_90 + k_96) (some (.inr (13, [.null, .int 0, .int 0, .int 0])))) fun h_126 => ((f_J1_init Ev h_126 ((n_j118_90 + k_96) + 1) (n_j118_90 + k_96)).bind fun (r_128, h_129, k_130, s_131) => (ad k_130 s_131 ((hp_k Ev h_129 (n_j118_90 + k_96) 13).bind fun u_137 => ((f_J1_append_3 Ev h_129 (((n_j118_90 + k_96) + 1) + k_130) (n_j118_90 + k_96) (eS Ev RX12 64)).bind fun (r_140, h_141, k_142, s_143) => (ad k_142 s_143 ((hp_k Ev h_141 r_140 13).bind fun u_149 => ((f_J1_append_7 Ev h_141 ((((n_j118_90 + k_96) + 1) + k_130) + k_142) r_140 v_84).bind fun (r_152, h_153, k_154, s_155) => (ad k_154 s_155 ((hp_k Ev h_153 r_152 13).bind fun u_161 => ((f_J1_toString Ev h_153 (((((n_j118_90 + k_96) + 1) + k_130) + k_142) + k_154) r_152).bind fun (r_164, h_165, k_166, s_167) => (ad k_166 s_167 (f_Y12_init_j159_109 Ev y3_l60_70 rec_l60_70 v_103 r_164 h_165 ((((((n_j118_90 + k_96) + 1) + k_130) + k_142) + k_154) + k_166)))))))))))))))))))))
def f_Y12_init_l60_70 (Ev : rb_E) (o : Nat) (x1 : Nat) : Nat → Int32 → AH → Nat → Option ((Unit ⊕ (String × Nat)) × AH × Nat × Nat)
  | 0, _, _, _ => none
  | k_l60_70 + 1, y3_l60_70, h_l60_70, n_l60_70 => ((hp_k Ev h_l60_70 x1 0).bind fun u_71 => ((f_X1_length Ev h_l60_70 x1).bind fun v_74 => (if v_74 ≤ y3_l60_70 then (some (.inl (), h_l60_70, 0, 0)) else ((hp_p Ev h_l60_70 x1 0 0).bind fun v_77 => ((hp_p Ev h_l60_70 v_77 1 0).bind fun v_79 => ((hp_k Ev h_l60_70 v_79 13).bind fun u_81 => ((f_J1_charAt Ev h_l60_70 v_79 y3_l60_70).bind fun v_84 => ((hp_p Ev h_l60_70 o 10 0).bind fun v_86 => (if (f_X1_isOperand v_84) = 0 then (f_Y12_init_j118_90 Ev o y3_l60_70 (f_Y12_init_l60_70 Ev o x1 k_l60_70) v_84 v_86 (eS Ev RX12 64) h_l60_70 n_l60_70) else (ad 1 4 (rb_lt (va_up h_l60_70 n_l60_70 (some (.inr (13, [.null, .int 0, .int 0, .int 0])))) fun h_177 => ((f_J1_init Ev h_177 (n_l60_70 + 1) n_l60_70).bind fun (r_179, h_180, k_181, s_182) => (ad k_181 s_182 ((hp_k Ev h_180 n_l60_70 13).bind fun u_188 => ((f_J1_append_3 Ev h_180 ((n_l60_70 + 1) + k_181) n_l60_70 (eS Ev RX12 64)).bind fun (r_191, h_192, k_193, s_194) => (ad k_193 s_194 ((hp_k Ev h_192 r_191 13).bind fun u_200 => ((f_J1_append_7 Ev h_192 (((n_l60_70 + 1) + k_181) + k_193) r_191 v_84).bind fun (r_203, h_204, k_205, s_206) => (ad k_205 s_206 ((hp_k Ev h_204 r_203 13).bind fun u_212 => ((f_J1_toString Ev h_204 ((((n_l60_70 + 1) + k_181) + k_193) + k_205) r_203).bind fun (r_215, h_216, k_217, s_218) => (ad k_217 s_218 (f_Y12_init_j118_90 Ev o y3_l60_70 (f_Y12_init_l60_70 Ev o x1 k_l60_70) v_84 v_86 r_215 h_216 (((((n_l60_70 + 1) + k_181) + k_193) + k_205) + k_217))))))))))))))))))))))))
def f_Y12_init (Ev : rb_E) (h : AH) (n : Nat) (o : Nat) (x1 : Nat) : Option ((Unit ⊕ (String × Nat)) × AH × Nat × Nat) := ((hp_put h o 10 6 (.ref x1)).bind fun h_1 => (ad 1 4 (rb_lt (va_up h_1 n (some (.inr (13, [.null, .int 0, .int 0, .int 0])))) fun h_7 => ((f_J1_init Ev h_7 (n + 1) n).bind fun (r_9, h_10, k_11, s_12) => (ad k_11 s_12 ((hp_put h_10 o 10 0 (.ref n)).bind fun h_18 => (ad 1 4 (rb_lt (va_up h_18 ((n + 1) + k_11) (some (.inr (13, [.null, .int 0, .int 0, .int 0])))) fun h_24 => ((f_J1_init Ev h_24 (((n + 1) + k_11) + 1) ((n + 1) + k_11)).bind fun (r_26, h_27, k_28, s_29) => (ad k_28 s_29 ((hp_put h_27 o 10 1 (.ref ((n + 1) + k_11))).bind fun h_35 => (if (72 : Int32) < 0 ∨ 65536 < (72 : Int32).toNatClampNeg then none else (ad 1 (72 : Int32).toNatClampNeg (rb_lt (va_up h_35 ((((n + 1) + k_11) + 1) + k_28) (some (.inl (eA Ev 0, (72 : Int32).toNatClampNeg, .inl (fun _ => 0))))) fun h_42 => ((hp_put h_42 o 10 2 (.ref ((((n + 1) + k_11) + 1) + k_28))).bind fun h_43 => (if (72 : Int32) < 0 ∨ 65536 < (72 : Int32).toNatClampNeg then none else (ad 1 (72 : Int32).toNatClampNeg (rb_lt (va_up h_43 (((((n + 1) + k_11) + 1) + k_28) + 1) (some (.inl (eA Ev 7, (72 : Int32).toNatClampNeg, aQ (fun _ => none))))) fun h_50 => ((hp_put h_50 o 10 3 (.ref (((((n + 1) + k_11) + 1) + k_28) + 1))).bind fun h_51 => ((hp_put h_51 o 10 4 (.int (-1))).bind fun h_53 => ((hp_k Ev h_53 x1 0).bind fun u_55 => ((f_X1_tree Ev h_53 ((((((n + 1) + k_11) + 1) + k_28) + 1) + 1) x1).bind fun (r_58, h_59, k_60, s_61) => (ad k_60 s_61 (match r_58 with | .inl v_67 => (f_Y12_init_l60_70 Ev o x1 4096 0 h_59 (((((((n + 1) + k_11) + 1) + k_28) + 1) + 1) + k_60)) | .inr (E_68, q_69) => (if E_68 = "java/lang/UnsupportedOperationException" then (some (.inr ("java/lang/UnsupportedOperationException", q_69), h_59, 0, 0)) else none)))))))))))))))))))))))))
abbrev rm_Y12_init (k s : Nat) : Room := { frames := 75, cells := k, slots := s, locals := 2866 }
set_option maxHeartbeats 4000000 in
theorem ct_Y12_init (Ev : rb_E) (h : AH) (n : Nat) (o : Nat) (x1 : Nat) (r : Unit ⊕ (String × Nat)) (h' : AH) (k s : Nat) (hf : f_Y12_init Ev h n o x1 = some (r, h', k, s)) : Ct Ev yX12_init (ws_ yX12_init cX12_init 5 none) (rm_Y12_init k s) [.ref o, .ref x1] h n (pX (rMap (fun _ => none) r) h' (n + k)) := by
  rw [f_Y12_init] at hf
  refine Ct.of rfl (Nat.le_of_ble_eq_true rfl) fun X C hnm => ?_
  have C : Cx Ev X RX12 cX12_init 5 none [] := C
  show Wa Ev X (rm_Y12_init k s) 5 h n 0 0 (rb_MQ Ev X (rm_Y12_init k s) (pX (rMap (fun _ => none) r) h' (n + k))) 0 [(0, .ref o), (1, .ref x1)] []
  have hb : Bd (n + k) k s n 0 0 k s := ⟨rfl, Nat.le_of_eq (Nat.zero_add _), Nat.le_of_eq (Nat.zero_add _)⟩
  refine rb_aload_n C dX12_init_0 rfl 0 rfl ?_
  refine rb_aload_n C dX12_init_1 rfl 1 rfl ?_
  obtain ⟨h_1, e_2, hf⟩ := rb_bd hf
  refine rb_hputF C ff_X12_3_X12 hnm e_2 rfl rfl dX12_init_2 ?_
  refine rb_aload_n C dX12_init_5 rfl 0 rfl ?_
  refine rb_objInit C q1771 q123 q124 dX12_init_6 (Nat.le_of_ble_eq_true rfl) (Nat.le_of_ble_eq_true rfl) ?_
  refine rb_aload_n C dX12_init_9 rfl 0 rfl ?_
  obtain ⟨a_5, b_6, hf, ea_3, eb_4⟩ := ad_at hf
  refine rb_hnew C ck_J1 q1772 q132 q72 [.null, .int 0, .int 0, .int 0] rfl (Bd.c1 hb ea_3) (Bd.s1 hb eb_4) dX12_init_10 ?_
  have hb := Bd.ade hb ea_3 eb_4
  obtain ⟨h_7, e_h_7⟩ : ∃ z, z = (va_up h_1 n (some (.inr (13, [.null, .int 0, .int 0, .int 0])))) := ⟨_, rfl⟩
  rw [← e_h_7]
  have hf := rb_let hf e_h_7
  refine rb_dup C dX12_init_13 rfl ?_
  obtain ⟨⟨r_9, h_10, k_11, s_12⟩, e_13, hf⟩ := rb_bd hf
  obtain ⟨a_16, b_17, hf, ea_14, eb_15⟩ := ad_at hf
  refine rb_callI (As := []) (rest := [.ref n, .ref o]) C mi_J1_init si_X12_17 (ct_J1_init Ev h_7 (n + 1) n r_9 _ _ _ e_13) rfl rfl (Nat.le_of_ble_eq_true rfl) ⟨Nat.le_of_ble_eq_true rfl, Nat.le_of_ble_eq_true rfl, Bd.c1 hb ea_14, Bd.s1 hb eb_15⟩ dX12_init_14 rb_xX (rb_kX (rb_w (kc := ((0 + 1) + k_11)) (ks := ((0 + 4) + s_12)) rfl rfl ?_))
  have hb := Bd.ade hb ea_14 eb_15
  obtain ⟨h_18, e_19, hf⟩ := rb_bd hf
  refine rb_hputF C ff_X12_18_X12 hnm e_19 rfl rfl dX12_init_17 ?_
  refine rb_aload_n C dX12_init_20 rfl 0 rfl ?_
  obtain ⟨a_22, b_23, hf, ea_20, eb_21⟩ := ad_at hf
  refine rb_hnew C ck_J1 q1772 q132 q72 [.null, .int 0, .int 0, .int 0] rfl (Bd.c1 hb ea_20) (Bd.s1 hb eb_21) dX12_init_21 ?_
  have hb := Bd.ade hb ea_20 eb_21
  obtain ⟨h_24, e_h_24⟩ : ∃ z, z = (va_up h_18 ((n + 1) + k_11) (some (.inr (13, [.null, .int 0, .int 0, .int 0])))) := ⟨_, rfl⟩
  rw [← e_h_24]
  have hf := rb_let hf e_h_24
  refine rb_dup C dX12_init_24 rfl ?_
  obtain ⟨⟨r_26, h_27, k_28, s_29⟩, e_30, hf⟩ := rb_bd hf
  obtain ⟨a_33, b_34, hf, ea_31, eb_32⟩ := ad_at hf
  refine rb_callI (As := []) (rest := [.ref ((n + 1) + k_11), .ref o]) C mi_J1_init si_X12_17 (ct_J1_init Ev h_24 (((n + 1) + k_11) + 1) ((n + 1) + k_11) r_26 _ _ _ e_30) rfl rfl (Nat.le_of_ble_eq_true rfl) ⟨Nat.le_of_ble_eq_true rfl, Nat.le_of_ble_eq_true rfl, Bd.c1 hb ea_31, Bd.s1 hb eb_32⟩ dX12_init_25 rb_xX (rb_kX (rb_w (kc := ((((0 + 1) + k_11) + 1) + k_28)) (ks := ((((0 + 4) + s_12) + 4) + s_29)) rfl rfl ?_))
  have hb := Bd.ade hb ea_31 eb_32
  obtain ⟨h_35, e_36, hf⟩ := rb_bd hf
  refine rb_hputF C ff_X12_22_X12 hnm e_36 rfl rfl dX12_init_28 ?_
  refine rb_aload_n C dX12_init_31 rfl 0 rfl ?_
  refine rb_bipush (v := 72) C dX12_init_32 rfl ?_
  by_cases c_g_37 : (72 : Int32) < 0 ∨ 65536 < (72 : Int32).toNatClampNeg
  · exact absurd ((if_pos c_g_37).symm.trans hf) (fun z => by cases z)
  have hf := (if_neg c_g_37).symm.trans hf
  obtain ⟨a_40, b_41, hf, ea_38, eb_39⟩ := ad_at hf
  refine rb_hnewa (atype := .int) C 0 rfl rfl rfl q202 c_g_37 ((72 : Int32).toNatClampNeg, .inl (fun _ => 0)) (fun _ => rfl) (Bd.c1 hb ea_38) (Bd.s1 hb eb_39) dX12_init_34 ?_
  have hb := Bd.ade hb ea_38 eb_39
  obtain ⟨h_42, e_h_42⟩ : ∃ z, z = (va_up h_35 ((((n + 1) + k_11) + 1) + k_28) (some (.inl (eA Ev 0, (72 : Int32).toNatClampNeg, .inl (fun _ => 0))))) := ⟨_, rfl⟩
  rw [← e_h_42]
  have hf := rb_let hf e_h_42
  obtain ⟨h_43, e_44, hf⟩ := rb_bd hf
  refine rb_hputF C ff_X12_25_X12 hnm e_44 rfl rfl dX12_init_36 ?_
  refine rb_aload_n C dX12_init_39 rfl 0 rfl ?_
  refine rb_bipush (v := 72) C dX12_init_40 rfl ?_
  by_cases c_g_45 : (72 : Int32) < 0 ∨ 65536 < (72 : Int32).toNatClampNeg
  · exact absurd ((if_pos c_g_45).symm.trans hf) (fun z => by cases z)
  have hf := (if_neg c_g_45).symm.trans hf
  obtain ⟨a_48, b_49, hf, ea_46, eb_47⟩ := ad_at hf
  refine rb_hnewq C 7 rfl q1774 q165 c_g_45 (Bd.c1 hb ea_46) (Bd.s1 hb eb_47) dX12_init_42 ?_
  have hb := Bd.ade hb ea_46 eb_47
  obtain ⟨h_50, e_h_50⟩ : ∃ z, z = (va_up h_43 (((((n + 1) + k_11) + 1) + k_28) + 1) (some (.inl (eA Ev 7, (72 : Int32).toNatClampNeg, aQ (fun _ => none))))) := ⟨_, rfl⟩
  rw [← e_h_50]
  have hf := rb_let hf e_h_50
  obtain ⟨h_51, e_52, hf⟩ := rb_bd hf
  refine rb_hputF C ff_X12_31_X12 hnm e_52 rfl rfl dX12_init_45 ?_
  refine rb_aload_n C dX12_init_48 rfl 0 rfl ?_
  refine rb_iconst (v := (-1)) C dX12_init_49 rfl ?_
  obtain ⟨h_53, e_54, hf⟩ := rb_bd hf
  refine rb_hput C fw_X12_35_X12 e_54 rfl rfl dX12_init_50 ?_
  refine rb_aload_n C dX12_init_53 rfl 1 rfl ?_
  obtain ⟨u_55, e_56, hf⟩ := rb_bd hf
  obtain ⟨⟨r_58, h_59, k_60, s_61⟩, e_62, hf⟩ := rb_bd hf
  obtain ⟨a_65, b_66, hf, ea_63, eb_64⟩ := ad_at hf
  rcases r_58 with v_67 | ⟨E_68, q_69⟩
  · dsimp only at hf
    refine rb_callVNX (As := []) (rest := []) C mi_X1_tree sv_X12_39 (hp_k_isC C.pf e_56 ck_X1) (ct_X1_tree Ev h_53 ((((((n + 1) + k_11) + 1) + k_28) + 1) + 1) x1 (.inl v_67) _ _ _ e_62) rfl rfl (Nat.le_of_ble_eq_true rfl) ⟨Nat.le_of_ble_eq_true rfl, Nat.le_of_ble_eq_true rfl, Bd.c1 hb ea_63, Bd.s1 hb eb_64⟩ dX12_init_54 rb_xX (rb_kX (r := some (.ref v_67)) (rb_w (kc := (((((((0 + 1) + k_11) + 1) + k_28) + 1) + 1) + k_60)) (ks := (((((((0 + 4) + s_12) + 4) + s_29) + (72 : Int32).toNatClampNeg) + (72 : Int32).toNatClampNeg) + s_61)) rfl rfl ?_))
    have hb := Bd.ade hb ea_63 eb_64
    refine rb_astore_n (lv' := [(2, .ref v_67), (0, .ref o), (1, .ref x1)]) C dX12_init_57 rfl (by decide) rfl ?_
    refine rb_iconst (v := 0) C dX12_init_58 rfl ?_
    refine rb_istore_n (lv' := [(3, .int 0), (2, .ref v_67), (0, .ref o), (1, .ref x1)]) C dX12_init_59 rfl (by decide) rfl ?_
    have L_l60_70 : ∀ (k_l60_70 : Nat) (y3_l60_70 : Int32) (h_l60_70 : AH) (n_l60_70 kc_l60_70 ks_l60_70 a_ b_ : Nat), f_Y12_init_l60_70 Ev o x1 k_l60_70 y3_l60_70 h_l60_70 n_l60_70 = some (r, h', a_, b_) → Bd (n + k) k s n_l60_70 kc_l60_70 ks_l60_70 a_ b_ → Wa Ev X (rm_Y12_init k s) 5 h_l60_70 n_l60_70 kc_l60_70 ks_l60_70 (rb_MQ Ev X (rm_Y12_init k s) (pX (rMap (fun _ => none) r) h' (n + k))) 60 [(0, .ref o), (1, .ref x1), (2, .ref v_67), (3, .int y3_l60_70)] [] := by
      intro k_l60_70
      induction k_l60_70 with
      | zero => intro y3_l60_70 h_l60_70 n_l60_70 kc_l60_70 ks_l60_70 a_ b_ hf hb; cases hf
      | succ k_l60_70 ih_l60_70 =>
        intro y3_l60_70 h_l60_70 n_l60_70 kc_l60_70 ks_l60_70 a_ b_ hf hb
        rw [f_Y12_init_l60_70] at hf
        refine rb_iload_n C dX12_init_60 rfl 3 rfl ?_
        refine rb_aload_n C dX12_init_61 rfl 1 rfl ?_
        obtain ⟨u_71, e_72, hf⟩ := rb_bd hf
        obtain ⟨v_74, e_75, hf⟩ := rb_bd hf
        refine rb_callV (As := []) (rest := [.int y3_l60_70]) C mi_X1_length sv_X12_43 (hp_k_isC C.pf e_72 ck_X1) (ct_X1_length Ev h_l60_70 n_l60_70 x1 _ e_75) rfl rfl (Nat.le_of_ble_eq_true rfl) ⟨Nat.le_of_ble_eq_true rfl, Nat.le_of_ble_eq_true rfl, hb.c0, hb.s0⟩ dX12_init_62 rb_xXi (rb_kXi fun hn_73 => (rb_w (kc := kc_l60_70) (ks := ks_l60_70) rfl rfl ?_))
        refine rb_icmp_ge (tgt := 169) C dX12_init_65 (by decide) (fun c_76 => ?_) (fun c_76 => ?_)
        · have hf := (if_pos c_76).symm.trans hf
          cases hf
          exact rb_vret C rfl hb.e.2.1 hb.e.2.2 dX12_init_169 ⟨rfl, rfl, hb.e.1⟩
        · have hf := (if_neg c_76).symm.trans hf
          refine rb_aload_n C dX12_init_68 rfl 1 rfl ?_
          obtain ⟨v_77, e_78, hf⟩ := rb_bd hf
          refine rb_hP C fl_X12_47_X1 e_78 dX12_init_69 ?_
          obtain ⟨v_79, e_80, hf⟩ := rb_bd hf
          refine rb_hP C fl_X12_51_X2 e_80 dX12_init_72 ?_
          refine rb_iload_n C dX12_init_75 rfl 3 rfl ?_
          obtain ⟨u_81, e_82, hf⟩ := rb_bd hf
          obtain ⟨v_84, e_85, hf⟩ := rb_bd hf
          refine rb_callV (As := [.int y3_l60_70]) (rest := []) C mi_J1_charAt sv_X12_56 (hp_k_isC C.pf e_82 ck_J1) (ct_J1_charAt Ev h_l60_70 n_l60_70 v_79 y3_l60_70 _ e_85) rfl rfl (Nat.le_of_ble_eq_true rfl) ⟨Nat.le_of_ble_eq_true rfl, Nat.le_of_ble_eq_true rfl, hb.c0, hb.s0⟩ dX12_init_76 rb_xXi (rb_kXi fun hn_83 => (rb_w (kc := kc_l60_70) (ks := ks_l60_70) rfl rfl ?_))
          refine rb_istore (lv' := [(4, .int v_84), (0, .ref o), (1, .ref x1), (2, .ref v_67), (3, .int y3_l60_70)]) C dX12_init_79 (by decide) rfl ?_
          refine rb_aload_n C dX12_init_81 rfl 1 rfl ?_
          obtain ⟨v_86, e_87, hf⟩ := rb_bd hf
          refine rb_hP C fl_X12_18_X12 e_87 dX12_init_82 ?_
          refine rb_iload C dX12_init_85 0 rfl ?_
          refine rb_callSN (As := [.int v_84]) (rest := [.ref v_86]) C mi_X1_isOperand ss_X12_60 (ct_X1_isOperand Ev h_l60_70 n_l60_70 v_84 _ rfl) rfl rfl (Nat.le_of_ble_eq_true rfl) ⟨Nat.le_of_ble_eq_true rfl, Nat.le_of_ble_eq_true rfl, hb.c0, hb.s0⟩ dX12_init_87 rb_xXi (rb_kXi fun hn_88 => (rb_w (kc := kc_l60_70) (ks := ks_l60_70) rfl rfl ?_))
          have J_j118_90 : ∀ (w0_j118_90 : Nat) (h_j118_90 : AH) (n_j118_90 : Nat) (kc_j118_90 ks_j118_90 a_ b_ : Nat), f_Y12_init_j118_90 Ev o y3_l60_70 (f_Y12_init_l60_70 Ev o x1 k_l60_70) v_84 v_86 w0_j118_90 h_j118_90 n_j118_90 = some (r, h', a_, b_) → Bd (n + k) k s n_j118_90 kc_j118_90 ks_j118_90 a_ b_ → Wa Ev X (rm_Y12_init k s) 5 h_j118_90 n_j118_90 kc_j118_90 ks_j118_90 (rb_MQ Ev X (rm_Y12_init k s) (pX (rMap (fun _ => none) r) h' (n + k))) 118 [(0, .ref o), (1, .ref x1), (2, .ref v_67), (3, .int y3_l60_70), (4, .int v_84)] [.ref w0_j118_90, .ref v_86] := by
            intro w0_j118_90 h_j118_90 n_j118_90 kc_j118_90 ks_j118_90 a_ b_ hf hb
            rw [f_Y12_init_j118_90] at hf
            obtain ⟨u_91, e_92, hf⟩ := rb_bd hf
            obtain ⟨⟨r_94, h_95, k_96, s_97⟩, e_98, hf⟩ := rb_bd hf
            obtain ⟨a_101, b_102, hf, ea_99, eb_100⟩ := ad_at hf
            refine rb_callV (As := [.ref w0_j118_90]) (rest := []) C mi_J1_append_3 sv_X12_66 (hp_k_isC C.pf e_92 ck_J1) (ct_J1_append_3 Ev h_j118_90 n_j118_90 v_86 w0_j118_90 r_94 _ _ _ e_98) rfl rfl (Nat.le_of_ble_eq_true rfl) ⟨Nat.le_of_ble_eq_true rfl, Nat.le_of_ble_eq_true rfl, Bd.c1 hb ea_99, Bd.s1 hb eb_100⟩ dX12_init_118 rb_xX (rb_kX (rb_w (kc := (kc_j118_90 + k_96)) (ks := (ks_j118_90 + s_97)) rfl rfl ?_))
            have hb := Bd.ade hb ea_99 eb_100
            refine rb_pop C dX12_init_121 rfl ?_
            refine rb_aload_n C dX12_init_122 rfl 0 rfl ?_
            obtain ⟨v_103, e_104, hf⟩ := rb_bd hf
            refine rb_hP C fl_X12_22_X12 e_104 dX12_init_123 ?_
            refine rb_iload C dX12_init_126 4 rfl ?_
            obtain ⟨v_106, e_107, hf⟩ := rb_bd hf
            refine rb_callSN (As := [.int v_84]) (rest := [.ref v_103]) C mi_X1_isOperator ss_X12_77 (ct_X1_isOperator Ev h_95 (n_j118_90 + k_96) v_84 _ e_107) rfl rfl (Nat.le_of_ble_eq_true rfl) ⟨Nat.le_of_ble_eq_true rfl, Nat.le_of_ble_eq_true rfl, hb.c0, hb.s0⟩ dX12_init_128 rb_xXi (rb_kXi fun hn_105 => (rb_w (kc := (kc_j118_90 + k_96)) (ks := (ks_j118_90 + s_97)) rfl rfl ?_))
            have J_j159_109 : ∀ (w0_j159_109 : Nat) (h_j159_109 : AH) (n_j159_109 : Nat) (kc_j159_109 ks_j159_109 a_ b_ : Nat), f_Y12_init_j159_109 Ev y3_l60_70 (f_Y12_init_l60_70 Ev o x1 k_l60_70) v_103 w0_j159_109 h_j159_109 n_j159_109 = some (r, h', a_, b_) → Bd (n + k) k s n_j159_109 kc_j159_109 ks_j159_109 a_ b_ → Wa Ev X (rm_Y12_init k s) 5 h_j159_109 n_j159_109 kc_j159_109 ks_j159_109 (rb_MQ Ev X (rm_Y12_init k s) (pX (rMap (fun _ => none) r) h' (n + k))) 159 [(0, .ref o), (1, .ref x1), (2, .ref v_67), (3, .int y3_l60_70), (4, .int v_84)] [.ref w0_j159_109, .ref v_103] := by
              intro w0_j159_109 h_j159_109 n_j159_109 kc_j159_109 ks_j159_109 a_ b_ hf hb
              rw [f_Y12_init_j159_109] at hf
              obtain ⟨u_110, e_111, hf⟩ := rb_bd hf
              obtain ⟨⟨r_113, h_114, k_115, s_116⟩, e_117, hf⟩ := rb_bd hf
              obtain ⟨a_120, b_121, hf, ea_118, eb_119⟩ := ad_at hf
              refine rb_callV (As := [.ref w0_j159_109]) (rest := []) C mi_J1_append_3 sv_X12_66 (hp_k_isC C.pf e_111 ck_J1) (ct_J1_append_3 Ev h_j159_109 n_j159_109 v_103 w0_j159_109 r_113 _ _ _ e_117) rfl rfl (Nat.le_of_ble_eq_true rfl) ⟨Nat.le_of_ble_eq_true rfl, Nat.le_of_ble_eq_true rfl, Bd.c1 hb ea_118, Bd.s1 hb eb_119⟩ dX12_init_159 rb_xX (rb_kX (rb_w (kc := (kc_j159_109 + k_115)) (ks := (ks_j159_109 + s_116)) rfl rfl ?_))
              have hb := Bd.ade hb ea_118 eb_119
              refine rb_pop C dX12_init_162 rfl ?_
              refine rb_iinc (v := (y3_l60_70 + 1)) (lv' := [(3, .int (y3_l60_70 + 1)), (0, .ref o), (1, .ref x1), (2, .ref v_67), (4, .int v_84)]) C dX12_init_163 (k := 3) rfl rfl (by decide) rfl ?_
              refine rb_goto (tgt := 60) C dX12_init_166 (by decide) ?_
              refine rb_sub [1, 2, 3, 0] rfl ?_
              exact ih_l60_70 (y3_l60_70 + 1) h_114 (n_j159_109 + k_115) _ _ _ _ hf hb
            refine rb_if_eq (tgt := 157) C dX12_init_131 (by decide) (fun c_108 => ?_) (fun c_108 => ?_)
            · have hf := (if_pos c_108).symm.trans hf
              refine rb_ldcS C q1779 dX12_init_157 ?_
              exact J_j159_109 (eS Ev RX12 64) h_95 (n_j118_90 + k_96)  _ _ _ _ hf hb
            · have hf := (if_neg c_108).symm.trans hf
              obtain ⟨a_124, b_125, hf, ea_122, eb_123⟩ := ad_at hf
              refine rb_hnew C ck_J1 q1772 q132 q72 [.null, .int 0, .int 0, .int 0] rfl (Bd.c1 hb ea_122) (Bd.s1 hb eb_123) dX12_init_134 ?_
              have hb := Bd.ade hb ea_122 eb_123
              obtain ⟨h_126, e_h_126⟩ : ∃ z, z = (va_up h_95 (n_j118_90 + k_96) (some (.inr (13, [.null, .int 0, .int 0, .int 0])))) := ⟨_, rfl⟩
              rw [← e_h_126]
              have hf := rb_let hf e_h_126
              refine rb_dup C dX12_init_137 rfl ?_
              obtain ⟨⟨r_128, h_129, k_130, s_131⟩, e_132, hf⟩ := rb_bd hf
              obtain ⟨a_135, b_136, hf, ea_133, eb_134⟩ := ad_at hf
              refine rb_callI (As := []) (rest := [.ref (n_j118_90 + k_96), .ref v_103]) C mi_J1_init si_X12_17 (ct_J1_init Ev h_126 ((n_j118_90 + k_96) + 1) (n_j118_90 + k_96) r_128 _ _ _ e_132) rfl rfl (Nat.le_of_ble_eq_true rfl) ⟨Nat.le_of_ble_eq_true rfl, Nat.le_of_ble_eq_true rfl, Bd.c1 hb ea_133, Bd.s1 hb eb_134⟩ dX12_init_138 rb_xX (rb_kX (rb_w (kc := (((kc_j118_90 + k_96) + 1) + k_130)) (ks := (((ks_j118_90 + s_97) + 4) + s_131)) rfl rfl ?_))
              have hb := Bd.ade hb ea_133 eb_134
              refine rb_ldcS C q1779 dX12_init_141 ?_
              obtain ⟨u_137, e_138, hf⟩ := rb_bd hf
              obtain ⟨⟨r_140, h_141, k_142, s_143⟩, e_144, hf⟩ := rb_bd hf
              obtain ⟨a_147, b_148, hf, ea_145, eb_146⟩ := ad_at hf
              refine rb_callV (As := [.ref (eS Ev RX12 64)]) (rest := [.ref v_103]) C mi_J1_append_3 sv_X12_66 (hp_k_isC C.pf e_138 ck_J1) (ct_J1_append_3 Ev h_129 (((n_j118_90 + k_96) + 1) + k_130) (n_j118_90 + k_96) (eS Ev RX12 64) r_140 _ _ _ e_144) rfl rfl (Nat.le_of_ble_eq_true rfl) ⟨Nat.le_of_ble_eq_true rfl, Nat.le_of_ble_eq_true rfl, Bd.c1 hb ea_145, Bd.s1 hb eb_146⟩ dX12_init_143 rb_xX (rb_kX (rb_w (kc := ((((kc_j118_90 + k_96) + 1) + k_130) + k_142)) (ks := ((((ks_j118_90 + s_97) + 4) + s_131) + s_143)) rfl rfl ?_))
              have hb := Bd.ade hb ea_145 eb_146
              refine rb_iload C dX12_init_146 4 rfl ?_
              obtain ⟨u_149, e_150, hf⟩ := rb_bd hf
              obtain ⟨⟨r_152, h_153, k_154, s_155⟩, e_156, hf⟩ := rb_bd hf
              obtain ⟨a_159, b_160, hf, ea_157, eb_158⟩ := ad_at hf
              refine rb_callV (As := [.int v_84]) (rest := [.ref v_103]) C mi_J1_append_7 sv_X12_70 (hp_k_isC C.pf e_150 ck_J1) (ct_J1_append_7 Ev h_141 ((((n_j118_90 + k_96) + 1) + k_130) + k_142) r_140 v_84 r_152 _ _ _ e_156) rfl rfl (Nat.le_of_ble_eq_true rfl) ⟨Nat.le_of_ble_eq_true rfl, Nat.le_of_ble_eq_true rfl, Bd.c1 hb ea_157, Bd.s1 hb eb_158⟩ dX12_init_148 rb_xX (rb_kX (rb_w (kc := (((((kc_j118_90 + k_96) + 1) + k_130) + k_142) + k_154)) (ks := (((((ks_j118_90 + s_97) + 4) + s_131) + s_143) + s_155)) rfl rfl ?_))
              have hb := Bd.ade hb ea_157 eb_158
              obtain ⟨u_161, e_162, hf⟩ := rb_bd hf
              obtain ⟨⟨r_164, h_165, k_166, s_167⟩, e_168, hf⟩ := rb_bd hf
              obtain ⟨a_171, b_172, hf, ea_169, eb_170⟩ := ad_at hf
              refine rb_callV (As := []) (rest := [.ref v_103]) C mi_J1_toString sv_X12_73 (hp_k_isC C.pf e_162 ck_J1) (ct_J1_toString Ev h_153 (((((n_j118_90 + k_96) + 1) + k_130) + k_142) + k_154) r_152 r_164 _ _ _ e_168) rfl rfl (Nat.le_of_ble_eq_true rfl) ⟨Nat.le_of_ble_eq_true rfl, Nat.le_of_ble_eq_true rfl, Bd.c1 hb ea_169, Bd.s1 hb eb_170⟩ dX12_init_151 rb_xX (rb_kX (rb_w (kc := ((((((kc_j118_90 + k_96) + 1) + k_130) + k_142) + k_154) + k_166)) (ks := ((((((ks_j118_90 + s_97) + 4) + s_131) + s_143) + s_155) + s_167)) rfl rfl ?_))
              have hb := Bd.ade hb ea_169 eb_170
              refine rb_goto (tgt := 159) C dX12_init_154 (by decide) ?_
              exact J_j159_109 r_164 h_165 ((((((n_j118_90 + k_96) + 1) + k_130) + k_142) + k_154) + k_166)  _ _ _ _ hf hb
          refine rb_if_eq (tgt := 116) C dX12_init_90 (by decide) (fun c_89 => ?_) (fun c_89 => ?_)
          · have hf := (if_pos c_89).symm.trans hf
            refine rb_ldcS C q1779 dX12_init_116 ?_
            refine rb_sub [1, 2, 3, 4, 0] rfl ?_
            exact J_j118_90 (eS Ev RX12 64) h_l60_70 n_l60_70  _ _ _ _ hf hb
          · have hf := (if_neg c_89).symm.trans hf
            obtain ⟨a_175, b_176, hf, ea_173, eb_174⟩ := ad_at hf
            refine rb_hnew C ck_J1 q1772 q132 q72 [.null, .int 0, .int 0, .int 0] rfl (Bd.c1 hb ea_173) (Bd.s1 hb eb_174) dX12_init_93 ?_
            have hb := Bd.ade hb ea_173 eb_174
            obtain ⟨h_177, e_h_177⟩ : ∃ z, z = (va_up h_l60_70 n_l60_70 (some (.inr (13, [.null, .int 0, .int 0, .int 0])))) := ⟨_, rfl⟩
            rw [← e_h_177]
            have hf := rb_let hf e_h_177
            refine rb_dup C dX12_init_96 rfl ?_
            obtain ⟨⟨r_179, h_180, k_181, s_182⟩, e_183, hf⟩ := rb_bd hf
            obtain ⟨a_186, b_187, hf, ea_184, eb_185⟩ := ad_at hf
            refine rb_callI (As := []) (rest := [.ref n_l60_70, .ref v_86]) C mi_J1_init si_X12_17 (ct_J1_init Ev h_177 (n_l60_70 + 1) n_l60_70 r_179 _ _ _ e_183) rfl rfl (Nat.le_of_ble_eq_true rfl) ⟨Nat.le_of_ble_eq_true rfl, Nat.le_of_ble_eq_true rfl, Bd.c1 hb ea_184, Bd.s1 hb eb_185⟩ dX12_init_97 rb_xX (rb_kX (rb_w (kc := ((kc_l60_70 + 1) + k_181)) (ks := ((ks_l60_70 + 4) + s_182)) rfl rfl ?_))
            have hb := Bd.ade hb ea_184 eb_185
            refine rb_ldcS C q1779 dX12_init_100 ?_
            obtain ⟨u_188, e_189, hf⟩ := rb_bd hf
            obtain ⟨⟨r_191, h_192, k_193, s_194⟩, e_195, hf⟩ := rb_bd hf
            obtain ⟨a_198, b_199, hf, ea_196, eb_197⟩ := ad_at hf
            refine rb_callV (As := [.ref (eS Ev RX12 64)]) (rest := [.ref v_86]) C mi_J1_append_3 sv_X12_66 (hp_k_isC C.pf e_189 ck_J1) (ct_J1_append_3 Ev h_180 ((n_l60_70 + 1) + k_181) n_l60_70 (eS Ev RX12 64) r_191 _ _ _ e_195) rfl rfl (Nat.le_of_ble_eq_true rfl) ⟨Nat.le_of_ble_eq_true rfl, Nat.le_of_ble_eq_true rfl, Bd.c1 hb ea_196, Bd.s1 hb eb_197⟩ dX12_init_102 rb_xX (rb_kX (rb_w (kc := (((kc_l60_70 + 1) + k_181) + k_193)) (ks := (((ks_l60_70 + 4) + s_182) + s_194)) rfl rfl ?_))
            have hb := Bd.ade hb ea_196 eb_197
            refine rb_iload C dX12_init_105 0 rfl ?_
            obtain ⟨u_200, e_201, hf⟩ := rb_bd hf
            obtain ⟨⟨r_203, h_204, k_205, s_206⟩, e_207, hf⟩ := rb_bd hf
            obtain ⟨a_210, b_211, hf, ea_208, eb_209⟩ := ad_at hf
            refine rb_callV (As := [.int v_84]) (rest := [.ref v_86]) C mi_J1_append_7 sv_X12_70 (hp_k_isC C.pf e_201 ck_J1) (ct_J1_append_7 Ev h_192 (((n_l60_70 + 1) + k_181) + k_193) r_191 v_84 r_203 _ _ _ e_207) rfl rfl (Nat.le_of_ble_eq_true rfl) ⟨Nat.le_of_ble_eq_true rfl, Nat.le_of_ble_eq_true rfl, Bd.c1 hb ea_208, Bd.s1 hb eb_209⟩ dX12_init_107 rb_xX (rb_kX (rb_w (kc := ((((kc_l60_70 + 1) + k_181) + k_193) + k_205)) (ks := ((((ks_l60_70 + 4) + s_182) + s_194) + s_206)) rfl rfl ?_))
            have hb := Bd.ade hb ea_208 eb_209
            obtain ⟨u_212, e_213, hf⟩ := rb_bd hf
            obtain ⟨⟨r_215, h_216, k_217, s_218⟩, e_219, hf⟩ := rb_bd hf
            obtain ⟨a_222, b_223, hf, ea_220, eb_221⟩ := ad_at hf
            refine rb_callV (As := []) (rest := [.ref v_86]) C mi_J1_toString sv_X12_73 (hp_k_isC C.pf e_213 ck_J1) (ct_J1_toString Ev h_204 ((((n_l60_70 + 1) + k_181) + k_193) + k_205) r_203 r_215 _ _ _ e_219) rfl rfl (Nat.le_of_ble_eq_true rfl) ⟨Nat.le_of_ble_eq_true rfl, Nat.le_of_ble_eq_true rfl, Bd.c1 hb ea_220, Bd.s1 hb eb_221⟩ dX12_init_110 rb_xX (rb_kX (rb_w (kc := (((((kc_l60_70 + 1) + k_181) + k_193) + k_205) + k_217)) (ks := (((((ks_l60_70 + 4) + s_182) + s_194) + s_206) + s_218)) rfl rfl ?_))
            have hb := Bd.ade hb ea_220 eb_221
            refine rb_goto (tgt := 118) C dX12_init_113 (by decide) ?_
            refine rb_sub [1, 2, 3, 4, 0] rfl ?_
            exact J_j118_90 r_215 h_216 (((((n_l60_70 + 1) + k_181) + k_193) + k_205) + k_217)  _ _ _ _ hf hb
    refine rb_sub [2, 3, 1, 0] rfl ?_
    exact L_l60_70 4096 0 h_59 (((((((n + 1) + k_11) + 1) + k_28) + 1) + 1) + k_60) _ _ _ _ hf hb
  · dsimp only at hf
    by_cases c_224 : E_68 = "java/lang/UnsupportedOperationException"
    · have hf := (if_pos c_224).symm.trans hf
      subst c_224
      refine rb_callVNX (As := []) (rest := []) C mi_X1_tree sv_X12_39 (hp_k_isC C.pf e_56 ck_X1) (ct_X1_tree Ev h_53 ((((((n + 1) + k_11) + 1) + k_28) + 1) + 1) x1 (.inr ("java/lang/UnsupportedOperationException", q_69)) _ _ _ e_62) rfl rfl (Nat.le_of_ble_eq_true rfl) ⟨Nat.le_of_ble_eq_true rfl, Nat.le_of_ble_eq_true rfl, Bd.c1 hb ea_63, Bd.s1 hb eb_64⟩ dX12_init_54 (rb_xY (E := "java/lang/UnsupportedOperationException") (rb_wX (kc := (((((((0 + 1) + k_11) + 1) + k_28) + 1) + 1) + k_60)) (ks := (((((((0 + 4) + s_12) + 4) + s_29) + (72 : Int32).toNatClampNeg) + (72 : Int32).toNatClampNeg) + s_61)) rfl rfl ?_)) rb_kY
      have hb := Bd.ade hb ea_63 eb_64
      cases hf
      exact rb_out C (fun _ z => absurd z List.not_mem_nil) hb.e.2.1 hb.e.2.2 ⟨rfl, rfl, hb.e.1⟩
    have hf := (if_neg c_224).symm.trans hf
    cases hf
def f_Y1_bracketings (Ev : rb_E) (h : AH) (n : Nat) (o : Nat) : Option ((Int64 ⊕ (String × Nat)) × AH × Nat × Nat) := (ad 1 7 (rb_lt (va_up h n (some (.inr (10, [.null, .null, .null, .null, .int 0, .long 0, .null])))) fun h_5 => ((f_Y12_init Ev h_5 (n + 1) n o).bind fun (r_7, h_8, k_9, s_10) => (ad k_9 s_10 (match r_7 with | .inl v_16 => ((hp_k Ev h_8 n 10).bind fun u_19 => ((f_X12_bracketings Ev h_8 ((n + 1) + k_9) n).bind fun (r_22, h_23, k_24, s_25) => (ad k_24 s_25 (some (.inl r_22, h_23, 0, 0))))) | .inr (E_17, q_18) => (if E_17 = "java/lang/UnsupportedOperationException" then (some (.inr ("java/lang/UnsupportedOperationException", q_18), h_8, 0, 0)) else none))))))
abbrev rm_Y1_bracketings (k s : Nat) : Room := { frames := 76, cells := k, slots := s, locals := 2890 }
set_option maxHeartbeats 4000000 in
theorem ct_Y1_bracketings (Ev : rb_E) (h : AH) (n : Nat) (o : Nat) (r : Int64 ⊕ (String × Nat)) (h' : AH) (k s : Nat) (hf : f_Y1_bracketings Ev h n o = some (r, h', k, s)) : Ct Ev yX1_bracketings (ws_ yX1_bracketings cX1_bracketings 1 (some .long)) (rm_Y1_bracketings k s) [.ref o] h n (pX (rMap (fun v => some (.long v)) r) h' (n + k)) := by
  rw [f_Y1_bracketings] at hf
  refine Ct.of rfl (Nat.le_of_ble_eq_true rfl) fun X C hnm => ?_
  have C : Cx Ev X RX1 cX1_bracketings 1 (some .long) [] := C
  show Wa Ev X (rm_Y1_bracketings k s) 1 h n 0 0 (rb_MQ Ev X (rm_Y1_bracketings k s) (pX (rMap (fun v => some (.long v)) r) h' (n + k))) 0 [(0, .ref o)] []
  have hb : Bd (n + k) k s n 0 0 k s := ⟨rfl, Nat.le_of_eq (Nat.zero_add _), Nat.le_of_eq (Nat.zero_add _)⟩
  obtain ⟨a_3, b_4, hf, ea_1, eb_2⟩ := ad_at hf
  refine rb_hnew C ck_X12 q1766 q1767 q108 [.null, .null, .null, .null, .int 0, .long 0, .null] rfl (Bd.c1 hb ea_1) (Bd.s1 hb eb_2) dX1_bracketings_0 ?_
  have hb := Bd.ade hb ea_1 eb_2
  obtain ⟨h_5, e_h_5⟩ : ∃ z, z = (va_up h n (some (.inr (10, [.null, .null, .null, .null, .int 0, .long 0, .null])))) := ⟨_, rfl⟩
  rw [← e_h_5]
  have hf := rb_let hf e_h_5
  refine rb_dup C dX1_bracketings_3 rfl ?_
  refine rb_aload_n C dX1_bracketings_4 rfl 0 rfl ?_
  obtain ⟨⟨r_7, h_8, k_9, s_10⟩, e_11, hf⟩ := rb_bd hf
  obtain ⟨a_14, b_15, hf, ea_12, eb_13⟩ := ad_at hf
  rcases r_7 with v_16 | ⟨E_17, q_18⟩
  · dsimp only at hf
    refine rb_callI (As := [.ref o]) (rest := [.ref n]) C mi_X12_init si_X1_297 (ct_Y12_init Ev h_5 (n + 1) n o (.inl v_16) _ _ _ e_11) rfl rfl (Nat.le_of_ble_eq_true rfl) ⟨Nat.le_of_ble_eq_true rfl, Nat.le_of_ble_eq_true rfl, Bd.c1 hb ea_12, Bd.s1 hb eb_13⟩ dX1_bracketings_5 rb_xX (rb_kX (r := none) (rb_w (kc := ((0 + 1) + k_9)) (ks := ((0 + 7) + s_10)) rfl rfl ?_))
    have hb := Bd.ade hb ea_12 eb_13
    obtain ⟨u_19, e_20, hf⟩ := rb_bd hf
    obtain ⟨⟨r_22, h_23, k_24, s_25⟩, e_26, hf⟩ := rb_bd hf
    obtain ⟨a_29, b_30, hf, ea_27, eb_28⟩ := ad_at hf
    refine rb_callV (As := []) (rest := []) C mi_X12_bracketings sv_X1_300 (hp_k_isC C.pf e_20 ck_X12) (ct_X12_bracketings Ev h_8 ((n + 1) + k_9) n r_22 _ _ _ e_26) rfl rfl (Nat.le_of_ble_eq_true rfl) ⟨Nat.le_of_ble_eq_true rfl, Nat.le_of_ble_eq_true rfl, Bd.c1 hb ea_27, Bd.s1 hb eb_28⟩ dX1_bracketings_8 rb_xX (rb_kX (rb_w (kc := (((0 + 1) + k_9) + k_24)) (ks := (((0 + 7) + s_10) + s_25)) rfl rfl ?_))
    have hb := Bd.ade hb ea_27 eb_28
    cases hf
    exact rb_lret C rfl hb.e.2.1 hb.e.2.2 dX1_bracketings_11 ⟨rfl, rfl, hb.e.1⟩
  · dsimp only at hf
    by_cases c_31 : E_17 = "java/lang/UnsupportedOperationException"
    · have hf := (if_pos c_31).symm.trans hf
      subst c_31
      refine rb_callI (As := [.ref o]) (rest := [.ref n]) C mi_X12_init si_X1_297 (ct_Y12_init Ev h_5 (n + 1) n o (.inr ("java/lang/UnsupportedOperationException", q_18)) _ _ _ e_11) rfl rfl (Nat.le_of_ble_eq_true rfl) ⟨Nat.le_of_ble_eq_true rfl, Nat.le_of_ble_eq_true rfl, Bd.c1 hb ea_12, Bd.s1 hb eb_13⟩ dX1_bracketings_5 (rb_xY (E := "java/lang/UnsupportedOperationException") (rb_wX (kc := ((0 + 1) + k_9)) (ks := ((0 + 7) + s_10)) rfl rfl ?_)) rb_kY
      have hb := Bd.ade hb ea_12 eb_13
      cases hf
      exact rb_out C (fun _ z => absurd z List.not_mem_nil) hb.e.2.1 hb.e.2.2 ⟨rfl, rfl, hb.e.1⟩
    have hf := (if_neg c_31).symm.trans hf
    cases hf
def f_Y12_make_j140_59 (Ev : rb_E) (x1 : Int32) (y7_l70_12 : Int32) (n_l70_12 : Nat) (rec_l70_12 : Int32 → AH → Nat → Option (Unit × AH × Nat × Nat)) (h_52 : AH) (v_54 : Nat) (v_56 : Nat) (w0_j140_59 : Int32) : Option (Unit × AH × Nat × Nat) := ((hp_ao Ev h_52 7 v_56 (((8 * x1) + y7_l70_12) + w0_j140_59)).bind fun v_60 => (match v_60 with | none => ((hp_as Ev h_52 7 v_54 (((8 * x1) + 8) + y7_l70_12) none).bind fun h_62 => (rec_l70_12 (y7_l70_12 + 1) h_62 n_l70_12)) | some v_60_q => ((hp_en Ev v_60_q).bind fun u_65 => ((hp_as Ev h_52 7 v_54 (((8 * x1) + 8) + y7_l70_12) (some v_60_q)).bind fun h_64 => (rec_l70_12 (y7_l70_12 + 1) h_64 n_l70_12)))))
def f_Y12_make_j108_49 (Ev : rb_E) (o : Nat) (x1 : Int32) (y6_l58_10 : Int32) (y7_l70_12 : Int32) (h_l70_12 : AH) (n_l70_12 : Nat) (rec_l70_12 : Int32 → AH → Nat → Option (Unit × AH × Nat × Nat)) (v_44 : Nat) (v_46 : Nat) (w0_j108_49 : Int32) : Option (Unit × AH × Nat × Nat) := ((hp_il Ev h_l70_12 v_46 (((8 * x1) + y7_l70_12) + w0_j108_49)).bind fun v_50 => ((hp_is Ev h_l70_12 v_44 (((8 * x1) + 8) + y7_l70_12) v_50).bind fun h_52 => ((hp_p Ev h_52 o 10 3).bind fun v_54 => ((hp_p Ev h_52 o 10 3).bind fun v_56 => (if y7_l70_12 < y6_l58_10 then (f_Y12_make_j140_59 Ev x1 y7_l70_12 n_l70_12 rec_l70_12 h_52 v_54 v_56 0) else (f_Y12_make_j140_59 Ev x1 y7_l70_12 n_l70_12 rec_l70_12 h_52 v_54 v_56 1))))))
def f_Y12_make_l70_12 (Ev : rb_E) (o : Nat) (x1 : Int32) (self_ : AH → Nat → Nat → Int32 → Int32 → Option (Unit × AH × Nat × Nat)) (v_6 : Int32) (y6_l58_10 : Int32) (rec_l58_10 : Int32 → AH → Nat → Option (Unit × AH × Nat × Nat)) : Nat → Int32 → AH → Nat → Option (Unit × AH × Nat × Nat)
  | 0, _, _, _ => none
  | k_l70_12 + 1, y7_l70_12, h_l70_12, n_l70_12 => (if ((v_6 - x1) - 1) ≤ y7_l70_12 then ((hp_p Ev h_l70_12 o 10 2).bind fun v_14 => ((hp_p Ev h_l70_12 o 10 3).bind fun v_16 => ((hp_ap Ev h_l70_12 7 v_16 ((8 * x1) + y6_l58_10)).bind fun v_18 => ((hp_p Ev h_l70_12 o 10 2).bind fun v_20 => ((hp_il Ev h_l70_12 v_20 ((8 * x1) + y6_l58_10)).bind fun v_22 => ((hp_p Ev h_l70_12 o 10 2).bind fun v_24 => ((hp_il Ev h_l70_12 v_24 (((8 * x1) + y6_l58_10) + 1)).bind fun v_26 => ((hp_en Ev v_18).bind fun k_28 => ((hp_is Ev h_l70_12 v_14 (((8 * x1) + 8) + y6_l58_10) (f_enap v_18 k_28 v_22 v_26)).bind fun h_30 => ((hp_k Ev h_30 o 10).bind fun u_32 => ((self_ h_30 n_l70_12 o (x1 + 1) (if 0 < (y6_l58_10 - 1) then (y6_l58_10 - 1) else 0)).bind fun (r_35, h_36, k_37, s_38) => (ad k_37 s_38 (rec_l58_10 (y6_l58_10 + 1) h_36 (n_l70_12 + k_37)))))))))))))) else ((hp_p Ev h_l70_12 o 10 2).bind fun v_44 => ((hp_p Ev h_l70_12 o 10 2).bind fun v_46 => (if y7_l70_12 ≤ y6_l58_10 then (f_Y12_make_j108_49 Ev o x1 y6_l58_10 y7_l70_12 h_l70_12 n_l70_12 (f_Y12_make_l70_12 Ev o x1 self_ v_6 y6_l58_10 rec_l58_10 k_l70_12) v_44 v_46 0) else (f_Y12_make_j108_49 Ev o x1 y6_l58_10 y7_l70_12 h_l70_12 n_l70_12 (f_Y12_make_l70_12 Ev o x1 self_ v_6 y6_l58_10 rec_l58_10 k_l70_12) v_44 v_46 1)))))
def f_Y12_make_l58_10 (Ev : rb_E) (o : Nat) (x1 : Int32) (self_ : AH → Nat → Nat → Int32 → Int32 → Option (Unit × AH × Nat × Nat)) (v_6 : Int32) : Nat → Int32 → AH → Nat → Option (Unit × AH × Nat × Nat)
  | 0, _, _, _ => none
  | k_l58_10 + 1, y6_l58_10, h_l58_10, n_l58_10 => (if ((v_6 - x1) - 1) ≤ y6_l58_10 then (some ((), h_l58_10, 0, 0)) else (f_Y12_make_l70_12 Ev o x1 self_ v_6 y6_l58_10 (f_Y12_make_l58_10 Ev o x1 self_ v_6 k_l58_10) 4096 0 h_l58_10 n_l58_10))
def f_Y12_make_j55_9 (Ev : rb_E) (o : Nat) (x1 : Int32) (x2 : Int32) (self_ : AH → Nat → Nat → Int32 → Int32 → Option (Unit × AH × Nat × Nat)) (v_6 : Int32) (h_j55_9 : AH) (n_j55_9 : Nat) : Option (Unit × AH × Nat × Nat) := (f_Y12_make_l58_10 Ev o x1 self_ v_6 4096 x2 h_j55_9 n_j55_9)
def f_Y12_make (Ev : rb_E) : Nat → AH → Nat → Nat → Int32 → Int32 → Option (Unit × AH × Nat × Nat)
  | 0, _, _, _, _, _ => none
  | d + 1, h, n, o, x1, x2 => ((hp_p Ev h o 10 0).bind fun v_1 => ((hp_k Ev h v_1 13).bind fun u_3 => ((f_J1_length Ev h v_1).bind fun v_6 => (if (v_6 - x1) = 1 then ((hp_j Ev h o 10 5).bind fun v_68 => ((hp_put h o 10 5 (.long (v_68 + 1))).bind fun h_70 => ((hp_i Ev h_70 o 10 4).bind fun v_72 => ((hp_p Ev h_70 o 10 2).bind fun v_74 => ((hp_il Ev h_70 v_74 (8 * x1)).bind fun v_76 => ((hp_put h_70 o 10 4 (.int (if v_72 < v_76 then v_76 else v_72))).bind fun h_78 => (f_Y12_make_j55_9 Ev o x1 x2 (f_Y12_make Ev d) v_6 h_78 n))))))) else (f_Y12_make_j55_9 Ev o x1 x2 (f_Y12_make Ev d) v_6 h n)))))
abbrev rm_Y12_make (d : Nat) (k s : Nat) : Room := { frames := 12 + 2 * d, cells := k, slots := s, locals := 400 + 80 * d }
set_option maxHeartbeats 4000000 in
theorem ct_Y12_make (Ev : rb_E) (h : AH) (n : Nat) (d : Nat) (o : Nat) (x1 : Int32) (x2 : Int32) (r : Unit) (h' : AH) (k s : Nat) (hf : f_Y12_make Ev d h n o x1 x2 = some (r, h', k, s)) : Ct Ev yX12_make (ws_ yX12_make cX12_make 8 none) (rm_Y12_make d k s) [.ref o, .int x1, .int x2] h n (pX (.inl (none)) h' (n + k)) := by
  induction d generalizing h n o x1 x2 r h' k s with
  | zero => cases hf
  | succ d ih =>
    rw [f_Y12_make] at hf
    refine Ct.of rfl (Nat.le_of_ble_eq_true rfl) fun X C hnm => ?_
    have C : Cx Ev X RX12 cX12_make 8 none [] := C
    show Wa Ev X (rm_Y12_make (d + 1) k s) 8 h n 0 0 (rb_MQ Ev X (rm_Y12_make (d + 1) k s) (pX (.inl (none)) h' (n + k))) 0 [(0, .ref o), (1, .int x1), (2, .int x2)] []
    have hb : Bd (n + k) k s n 0 0 k s := ⟨rfl, Nat.le_of_eq (Nat.zero_add _), Nat.le_of_eq (Nat.zero_add _)⟩
    refine rb_bipush (v := 8) C dX12_make_0 rfl ?_
    refine rb_iload_n C dX12_make_2 rfl 1 rfl ?_
    refine rb_imul C dX12_make_3 ?_
    refine rb_istore_n (lv' := [(3, .int (8 * x1)), (0, .ref o), (1, .int x1), (2, .int x2)]) C dX12_make_4 rfl (by decide) rfl ?_
    refine rb_iload_n C dX12_make_5 rfl 0 rfl ?_
    refine rb_bipush (v := 8) C dX12_make_6 rfl ?_
    refine rb_iadd C dX12_make_8 ?_
    refine rb_istore (lv' := [(4, .int ((8 * x1) + 8)), (3, .int (8 * x1)), (0, .ref o), (1, .int x1), (2, .int x2)]) C dX12_make_9 (by decide) rfl ?_
    refine rb_aload_n C dX12_make_11 rfl 2 rfl ?_
    obtain ⟨v_1, e_2, hf⟩ := rb_bd hf
    refine rb_hP C fl_X12_18_X12 e_2 dX12_make_12 ?_
    obtain ⟨u_3, e_4, hf⟩ := rb_bd hf
    obtain ⟨v_6, e_7, hf⟩ := rb_bd hf
    refine rb_callV (As := []) (rest := []) C mi_J1_length sv_X12_80 (hp_k_isC C.pf e_4 ck_J1) (ct_J1_length Ev h n v_1 _ e_7) rfl rfl (Nat.le_of_ble_eq_true rfl) ⟨by show 1 + 1 ≤ 12 + 2 * (d + 1); omega, by show 8 + (1 + 11) + 20 ≤ 400 + 80 * (d + 1); omega, hb.c0, hb.s0⟩ dX12_make_15 rb_xXi (rb_kXi fun hn_5 => (rb_w (kc := 0) (ks := 0) rfl rfl ?_))
    refine rb_iload_n C dX12_make_18 rfl 3 rfl ?_
    refine rb_isub C dX12_make_19 ?_
    refine rb_istore (lv' := [(5, .int (v_6 - x1)), (4, .int ((8 * x1) + 8)), (3, .int (8 * x1)), (0, .ref o), (1, .int x1), (2, .int x2)]) C dX12_make_20 (by decide) rfl ?_
    refine rb_iload C dX12_make_22 0 rfl ?_
    refine rb_iconst (v := 1) C dX12_make_24 rfl ?_
    have J_j55_9 : ∀ (h_j55_9 : AH) (n_j55_9 : Nat) (kc_j55_9 ks_j55_9 a_ b_ : Nat), f_Y12_make_j55_9 Ev o x1 x2 (f_Y12_make Ev d) v_6 h_j55_9 n_j55_9 = some (r, h', a_, b_) → Bd (n + k) k s n_j55_9 kc_j55_9 ks_j55_9 a_ b_ → Wa Ev X (rm_Y12_make (d + 1) k s) 8 h_j55_9 n_j55_9 kc_j55_9 ks_j55_9 (rb_MQ Ev X (rm_Y12_make (d + 1) k s) (pX (.inl (none)) h' (n + k))) 55 [(0, .ref o), (1, .int x1), (2, .int x2), (3, .int (8 * x1)), (4, .int ((8 * x1) + 8)), (5, .int (v_6 - x1))] [] := by
      intro h_j55_9 n_j55_9 kc_j55_9 ks_j55_9 a_ b_ hf hb
      rw [f_Y12_make_j55_9] at hf
      refine rb_iload_n C dX12_make_55 rfl 2 rfl ?_
      refine rb_istore (lv' := [(6, .int x2), (0, .ref o), (1, .int x1), (2, .int x2), (3, .int (8 * x1)), (4, .int ((8 * x1) + 8)), (5, .int (v_6 - x1))]) C dX12_make_56 (by decide) rfl ?_
      have L_l58_10 : ∀ (k_l58_10 : Nat) (y6_l58_10 : Int32) (h_l58_10 : AH) (n_l58_10 kc_l58_10 ks_l58_10 a_ b_ : Nat), f_Y12_make_l58_10 Ev o x1 (f_Y12_make Ev d) v_6 k_l58_10 y6_l58_10 h_l58_10 n_l58_10 = some (r, h', a_, b_) → Bd (n + k) k s n_l58_10 kc_l58_10 ks_l58_10 a_ b_ → Wa Ev X (rm_Y12_make (d + 1) k s) 8 h_l58_10 n_l58_10 kc_l58_10 ks_l58_10 (rb_MQ Ev X (rm_Y12_make (d + 1) k s) (pX (.inl (none)) h' (n + k))) 58 [(0, .ref o), (1, .int x1), (2, .int x2), (3, .int (8 * x1)), (4, .int ((8 * x1) + 8)), (5, .int (v_6 - x1)), (6, .int y6_l58_10)] [] := by
        intro k_l58_10
        induction k_l58_10 with
        | zero => intro y6_l58_10 h_l58_10 n_l58_10 kc_l58_10 ks_l58_10 a_ b_ hf hb; cases hf
        | succ k_l58_10 ih_l58_10 =>
          intro y6_l58_10 h_l58_10 n_l58_10 kc_l58_10 ks_l58_10 a_ b_ hf hb
          rw [f_Y12_make_l58_10] at hf
          refine rb_iload C dX12_make_58 6 rfl ?_
          refine rb_iload C dX12_make_60 5 rfl ?_
          refine rb_iconst (v := 1) C dX12_make_62 rfl ?_
          refine rb_isub C dX12_make_63 ?_
          refine rb_icmp_ge (tgt := 212) C dX12_make_64 (by decide) (fun c_11 => ?_) (fun c_11 => ?_)
          · have hf := (if_pos c_11).symm.trans hf
            cases hf
            exact rb_vret C rfl hb.e.2.1 hb.e.2.2 dX12_make_212 ⟨rfl, rfl, hb.e.1⟩
          · have hf := (if_neg c_11).symm.trans hf
            refine rb_iconst (v := 0) C dX12_make_67 rfl ?_
            refine rb_istore (lv' := [(7, .int 0), (0, .ref o), (1, .int x1), (2, .int x2), (3, .int (8 * x1)), (4, .int ((8 * x1) + 8)), (5, .int (v_6 - x1)), (6, .int y6_l58_10)]) C dX12_make_68 (by decide) rfl ?_
            have L_l70_12 : ∀ (k_l70_12 : Nat) (y7_l70_12 : Int32) (h_l70_12 : AH) (n_l70_12 kc_l70_12 ks_l70_12 a_ b_ : Nat), f_Y12_make_l70_12 Ev o x1 (f_Y12_make Ev d) v_6 y6_l58_10 (f_Y12_make_l58_10 Ev o x1 (f_Y12_make Ev d) v_6 k_l58_10) k_l70_12 y7_l70_12 h_l70_12 n_l70_12 = some (r, h', a_, b_) → Bd (n + k) k s n_l70_12 kc_l70_12 ks_l70_12 a_ b_ → Wa Ev X (rm_Y12_make (d + 1) k s) 8 h_l70_12 n_l70_12 kc_l70_12 ks_l70_12 (rb_MQ Ev X (rm_Y12_make (d + 1) k s) (pX (.inl (none)) h' (n + k))) 70 [(0, .ref o), (1, .int x1), (2, .int x2), (3, .int (8 * x1)), (4, .int ((8 * x1) + 8)), (5, .int (v_6 - x1)), (6, .int y6_l58_10), (7, .int y7_l70_12)] [] := by
              intro k_l70_12
              induction k_l70_12 with
              | zero => intro y7_l70_12 h_l70_12 n_l70_12 kc_l70_12 ks_l70_12 a_ b_ hf hb; cases hf
              | succ k_l70_12 ih_l70_12 =>
                intro y7_l70_12 h_l70_12 n_l70_12 kc_l70_12 ks_l70_12 a_ b_ hf hb
                rw [f_Y12_make_l70_12] at hf
                refine rb_iload C dX12_make_70 7 rfl ?_
                refine rb_iload C dX12_make_72 5 rfl ?_
                refine rb_iconst (v := 1) C dX12_make_74 rfl ?_
                refine rb_isub C dX12_make_75 ?_
                refine rb_icmp_ge (tgt := 149) C dX12_make_76 (by decide) (fun c_13 => ?_) (fun c_13 => ?_)
                · have hf := (if_pos c_13).symm.trans hf
                  refine rb_aload_n C dX12_make_149 rfl 0 rfl ?_
                  obtain ⟨v_14, e_15, hf⟩ := rb_bd hf
                  refine rb_hP C fl_X12_25_X12 e_15 dX12_make_150 ?_
                  refine rb_iload C dX12_make_153 4 rfl ?_
                  refine rb_iload C dX12_make_155 6 rfl ?_
                  refine rb_iadd C dX12_make_157 ?_
                  refine rb_aload_n C dX12_make_158 rfl 0 rfl ?_
                  obtain ⟨v_16, e_17, hf⟩ := rb_bd hf
                  refine rb_hP C fl_X12_31_X12 e_17 dX12_make_159 ?_
                  refine rb_iload_n C dX12_make_162 rfl 3 rfl ?_
                  refine rb_iload C dX12_make_163 6 rfl ?_
                  refine rb_iadd C dX12_make_165 ?_
                  obtain ⟨v_18, e_19, hf⟩ := rb_bd hf
                  refine rb_hap C 7 rfl rfl e_19 dX12_make_166 ?_
                  refine rb_aload_n C dX12_make_167 rfl 0 rfl ?_
                  obtain ⟨v_20, e_21, hf⟩ := rb_bd hf
                  refine rb_hP C fl_X12_25_X12 e_21 dX12_make_168 ?_
                  refine rb_iload_n C dX12_make_171 rfl 3 rfl ?_
                  refine rb_iload C dX12_make_172 6 rfl ?_
                  refine rb_iadd C dX12_make_174 ?_
                  obtain ⟨v_22, e_23, hf⟩ := rb_bd hf
                  refine rb_hil C e_23 dX12_make_175 ?_
                  refine rb_aload_n C dX12_make_176 rfl 0 rfl ?_
                  obtain ⟨v_24, e_25, hf⟩ := rb_bd hf
                  refine rb_hP C fl_X12_25_X12 e_25 dX12_make_177 ?_
                  refine rb_iload_n C dX12_make_180 rfl 3 rfl ?_
                  refine rb_iload C dX12_make_181 6 rfl ?_
                  refine rb_iadd C dX12_make_183 ?_
                  refine rb_iconst (v := 1) C dX12_make_184 rfl ?_
                  refine rb_iadd C dX12_make_185 ?_
                  obtain ⟨v_26, e_27, hf⟩ := rb_bd hf
                  refine rb_hil C e_27 dX12_make_186 ?_
                  obtain ⟨k_28, e_29, hf⟩ := rb_bd hf
                  suffices kk_ap : Wa Ev X (rm_Y12_make (d + 1) k s) 8 h_l70_12 n_l70_12 kc_l70_12 ks_l70_12 (rb_MQ Ev X (rm_Y12_make (d + 1) k s) (pX (.inl (none)) h' (n + k))) 190 [(0, .ref o), (1, .int x1), (2, .int x2), (3, .int (8 * x1)), (4, .int ((8 * x1) + 8)), (5, .int (v_6 - x1)), (6, .int y6_l58_10), (7, .int y7_l70_12)] [.int (f_enap v_18 k_28 v_22 v_26), .int (((8 * x1) + 8) + y6_l58_10), .ref v_14] by
                    obtain ⟨g1_ap, g2_ap⟩ := hp_en_at e_29
                    rcases (show k_28 = 0 ∨ k_28 = 1 ∨ k_28 = 2 ∨ k_28 = 3 ∨ k_28 = 4 ∨ k_28 = 5 by omega) with rfl | rfl | rfl | rfl | rfl | rfl
                    · exact rb_callVOR (As := [.int v_22, .int v_26]) (rest := [.int (((8 * x1) + 8) + y6_l58_10), .ref v_14]) C mr_X15_apply so_X12_98_X15_apply (hp_en_isC e_29) (ct_X15_apply Ev h_l70_12 n_l70_12 v_18 v_22 v_26 (f_enap v_18 0 v_22 v_26) rfl) rfl rfl (Nat.le_of_ble_eq_true rfl) ⟨by show 0 + 1 ≤ 12 + 2 * (d + 1); omega, by show 8 + (3 + 11) + 0 ≤ 400 + 80 * (d + 1); omega, hb.c0, hb.s0⟩ dX12_make_187 rb_xXi (rb_kXi fun _ => rb_w (kc := kc_l70_12) (ks := ks_l70_12) rfl rfl kk_ap)
                    · exact rb_callVOR (As := [.int v_22, .int v_26]) (rest := [.int (((8 * x1) + 8) + y6_l58_10), .ref v_14]) C mr_X16_apply so_X12_98_X16_apply (hp_en_isC e_29) (ct_X16_apply Ev h_l70_12 n_l70_12 v_18 v_22 v_26 (f_enap v_18 1 v_22 v_26) rfl) rfl rfl (Nat.le_of_ble_eq_true rfl) ⟨by show 0 + 1 ≤ 12 + 2 * (d + 1); omega, by show 8 + (3 + 11) + 0 ≤ 400 + 80 * (d + 1); omega, hb.c0, hb.s0⟩ dX12_make_187 rb_xXi (rb_kXi fun _ => rb_w (kc := kc_l70_12) (ks := ks_l70_12) rfl rfl kk_ap)
                    · exact rb_callVOR (As := [.int v_22, .int v_26]) (rest := [.int (((8 * x1) + 8) + y6_l58_10), .ref v_14]) C mr_X17_apply so_X12_98_X17_apply (hp_en_isC e_29) (ct_X17_apply Ev h_l70_12 n_l70_12 v_18 v_22 v_26 (f_enap v_18 2 v_22 v_26) rfl) rfl rfl (Nat.le_of_ble_eq_true rfl) ⟨by show 0 + 1 ≤ 12 + 2 * (d + 1); omega, by show 8 + (3 + 11) + 0 ≤ 400 + 80 * (d + 1); omega, hb.c0, hb.s0⟩ dX12_make_187 rb_xXi (rb_kXi fun _ => rb_w (kc := kc_l70_12) (ks := ks_l70_12) rfl rfl kk_ap)
                    · exact rb_callVOR (As := [.int v_22, .int v_26]) (rest := [.int (((8 * x1) + 8) + y6_l58_10), .ref v_14]) C mr_X18_apply so_X12_98_X18_apply (hp_en_isC e_29) (ct_X18_apply Ev h_l70_12 n_l70_12 v_18 v_22 v_26 (f_enap v_18 3 v_22 v_26) rfl) rfl rfl (Nat.le_of_ble_eq_true rfl) ⟨by show 1 + 1 ≤ 12 + 2 * (d + 1); omega, by show 8 + (3 + 11) + 60 ≤ 400 + 80 * (d + 1); omega, hb.c0, hb.s0⟩ dX12_make_187 rb_xXi (rb_kXi fun _ => rb_w (kc := kc_l70_12) (ks := ks_l70_12) rfl rfl kk_ap)
                    · exact rb_callVOR (As := [.int v_22, .int v_26]) (rest := [.int (((8 * x1) + 8) + y6_l58_10), .ref v_14]) C mr_X19_apply so_X12_98_X19_apply (hp_en_isC e_29) (ct_X19_apply Ev h_l70_12 n_l70_12 v_18 v_22 v_26 (f_enap v_18 4 v_22 v_26) rfl) rfl rfl (Nat.le_of_ble_eq_true rfl) ⟨by show 1 + 1 ≤ 12 + 2 * (d + 1); omega, by show 8 + (3 + 11) + 60 ≤ 400 + 80 * (d + 1); omega, hb.c0, hb.s0⟩ dX12_make_187 rb_xXi (rb_kXi fun _ => rb_w (kc := kc_l70_12) (ks := ks_l70_12) rfl rfl kk_ap)
                    · exact rb_callVOR (As := [.int v_22, .int v_26]) (rest := [.int (((8 * x1) + 8) + y6_l58_10), .ref v_14]) C mr_X20_apply so_X12_98_X20_apply (hp_en_isC e_29) (ct_X20_apply Ev h_l70_12 n_l70_12 v_18 v_22 v_26 (f_enap v_18 5 v_22 v_26) rfl) rfl rfl (Nat.le_of_ble_eq_true rfl) ⟨by show 0 + 1 ≤ 12 + 2 * (d + 1); omega, by show 8 + (3 + 11) + 0 ≤ 400 + 80 * (d + 1); omega, hb.c0, hb.s0⟩ dX12_make_187 rb_xXi (rb_kXi fun _ => rb_w (kc := kc_l70_12) (ks := ks_l70_12) rfl rfl kk_ap)
                  obtain ⟨h_30, e_31, hf⟩ := rb_bd hf
                  refine rb_his C e_31 dX12_make_190 ?_
                  refine rb_aload_n C dX12_make_191 rfl 0 rfl ?_
                  refine rb_iload_n C dX12_make_192 rfl 1 rfl ?_
                  refine rb_iconst (v := 1) C dX12_make_193 rfl ?_
                  refine rb_iadd C dX12_make_194 ?_
                  refine rb_iconst (v := 0) C dX12_make_195 rfl ?_
                  refine rb_iload C dX12_make_196 6 rfl ?_
                  refine rb_iconst (v := 1) C dX12_make_198 rfl ?_
                  refine rb_isub C dX12_make_199 ?_
                  refine rb_mmax C q1831 q288 q81 q289 (Nat.le_of_ble_eq_true rfl) (Nat.le_of_ble_eq_true rfl) hb.c0 hb.s0 dX12_make_200 ?_
                  obtain ⟨u_32, e_33, hf⟩ := rb_bd hf
                  obtain ⟨⟨r_35, h_36, k_37, s_38⟩, e_39, hf⟩ := rb_bd hf
                  obtain ⟨a_42, b_43, hf, ea_40, eb_41⟩ := ad_at hf
                  refine rb_callV (As := [.int (x1 + 1), .int (if 0 < (y6_l58_10 - 1) then (y6_l58_10 - 1) else 0)]) (rest := []) C mi_X12_make sv_X12_117 (hp_k_isC C.pf e_33 ck_X12) (ih h_30 n_l70_12 o (x1 + 1) (if 0 < (y6_l58_10 - 1) then (y6_l58_10 - 1) else 0) r_35 _ _ _ e_39) rfl rfl (Nat.le_of_ble_eq_true rfl) ⟨by show (12 + 2 * d) + 1 ≤ 12 + 2 * (d + 1); omega, by show 8 + (8 + 11) + (400 + 80 * d) ≤ 400 + 80 * (d + 1); omega, Bd.c1 hb ea_40, Bd.s1 hb eb_41⟩ dX12_make_203 rb_xX (rb_kX (rb_w (kc := (kc_l70_12 + k_37)) (ks := (ks_l70_12 + s_38)) rfl rfl ?_))
                  have hb := Bd.ade hb ea_40 eb_41
                  refine rb_iinc (v := (y6_l58_10 + 1)) (lv' := [(6, .int (y6_l58_10 + 1)), (0, .ref o), (1, .int x1), (2, .int x2), (3, .int (8 * x1)), (4, .int ((8 * x1) + 8)), (5, .int (v_6 - x1)), (7, .int y7_l70_12)]) C dX12_make_206 (k := 6) rfl rfl (by decide) rfl ?_
                  refine rb_goto (tgt := 58) C dX12_make_209 (by decide) ?_
                  refine rb_sub [1, 2, 3, 4, 5, 6, 0] rfl ?_
                  exact ih_l58_10 (y6_l58_10 + 1) h_36 (n_l70_12 + k_37) _ _ _ _ hf hb
                · have hf := (if_neg c_13).symm.trans hf
                  refine rb_aload_n C dX12_make_79 rfl 0 rfl ?_
                  obtain ⟨v_44, e_45, hf⟩ := rb_bd hf
                  refine rb_hP C fl_X12_25_X12 e_45 dX12_make_80 ?_
                  refine rb_iload C dX12_make_83 4 rfl ?_
                  refine rb_iload C dX12_make_85 7 rfl ?_
                  refine rb_iadd C dX12_make_87 ?_
                  refine rb_aload_n C dX12_make_88 rfl 0 rfl ?_
                  obtain ⟨v_46, e_47, hf⟩ := rb_bd hf
                  refine rb_hP C fl_X12_25_X12 e_47 dX12_make_89 ?_
                  refine rb_iload_n C dX12_make_92 rfl 3 rfl ?_
                  refine rb_iload C dX12_make_93 7 rfl ?_
                  refine rb_iadd C dX12_make_95 ?_
                  refine rb_iload C dX12_make_96 7 rfl ?_
                  refine rb_iload C dX12_make_98 6 rfl ?_
                  have J_j108_49 : ∀ (w0_j108_49 : Int32) (kc_j108_49 ks_j108_49 a_ b_ : Nat), f_Y12_make_j108_49 Ev o x1 y6_l58_10 y7_l70_12 h_l70_12 n_l70_12 (f_Y12_make_l70_12 Ev o x1 (f_Y12_make Ev d) v_6 y6_l58_10 (f_Y12_make_l58_10 Ev o x1 (f_Y12_make Ev d) v_6 k_l58_10) k_l70_12) v_44 v_46 w0_j108_49 = some (r, h', a_, b_) → Bd (n + k) k s n_l70_12 kc_j108_49 ks_j108_49 a_ b_ → Wa Ev X (rm_Y12_make (d + 1) k s) 8 h_l70_12 n_l70_12 kc_j108_49 ks_j108_49 (rb_MQ Ev X (rm_Y12_make (d + 1) k s) (pX (.inl (none)) h' (n + k))) 108 [(0, .ref o), (1, .int x1), (2, .int x2), (3, .int (8 * x1)), (4, .int ((8 * x1) + 8)), (5, .int (v_6 - x1)), (6, .int y6_l58_10), (7, .int y7_l70_12)] [.int w0_j108_49, .int ((8 * x1) + y7_l70_12), .ref v_46, .int (((8 * x1) + 8) + y7_l70_12), .ref v_44] := by
                    intro w0_j108_49 kc_j108_49 ks_j108_49 a_ b_ hf hb
                    rw [f_Y12_make_j108_49] at hf
                    refine rb_iadd C dX12_make_108 ?_
                    obtain ⟨v_50, e_51, hf⟩ := rb_bd hf
                    refine rb_hil C e_51 dX12_make_109 ?_
                    obtain ⟨h_52, e_53, hf⟩ := rb_bd hf
                    refine rb_his C e_53 dX12_make_110 ?_
                    refine rb_aload_n C dX12_make_111 rfl 0 rfl ?_
                    obtain ⟨v_54, e_55, hf⟩ := rb_bd hf
                    refine rb_hP C fl_X12_31_X12 e_55 dX12_make_112 ?_
                    refine rb_iload C dX12_make_115 4 rfl ?_
                    refine rb_iload C dX12_make_117 7 rfl ?_
                    refine rb_iadd C dX12_make_119 ?_
                    refine rb_aload_n C dX12_make_120 rfl 0 rfl ?_
                    obtain ⟨v_56, e_57, hf⟩ := rb_bd hf
                    refine rb_hP C fl_X12_31_X12 e_57 dX12_make_121 ?_
                    refine rb_iload_n C dX12_make_124 rfl 3 rfl ?_
                    refine rb_iload C dX12_make_125 7 rfl ?_
                    refine rb_iadd C dX12_make_127 ?_
                    refine rb_iload C dX12_make_128 7 rfl ?_
                    refine rb_iload C dX12_make_130 6 rfl ?_
                    have J_j140_59 : ∀ (w0_j140_59 : Int32) (kc_j140_59 ks_j140_59 a_ b_ : Nat), f_Y12_make_j140_59 Ev x1 y7_l70_12 n_l70_12 (f_Y12_make_l70_12 Ev o x1 (f_Y12_make Ev d) v_6 y6_l58_10 (f_Y12_make_l58_10 Ev o x1 (f_Y12_make Ev d) v_6 k_l58_10) k_l70_12) h_52 v_54 v_56 w0_j140_59 = some (r, h', a_, b_) → Bd (n + k) k s n_l70_12 kc_j140_59 ks_j140_59 a_ b_ → Wa Ev X (rm_Y12_make (d + 1) k s) 8 h_52 n_l70_12 kc_j140_59 ks_j140_59 (rb_MQ Ev X (rm_Y12_make (d + 1) k s) (pX (.inl (none)) h' (n + k))) 140 [(0, .ref o), (1, .int x1), (2, .int x2), (3, .int (8 * x1)), (4, .int ((8 * x1) + 8)), (5, .int (v_6 - x1)), (6, .int y6_l58_10), (7, .int y7_l70_12)] [.int w0_j140_59, .int ((8 * x1) + y7_l70_12), .ref v_56, .int (((8 * x1) + 8) + y7_l70_12), .ref v_54] := by
                      intro w0_j140_59 kc_j140_59 ks_j140_59 a_ b_ hf hb
                      rw [f_Y12_make_j140_59] at hf
                      refine rb_iadd C dX12_make_140 ?_
                      obtain ⟨v_60, e_61, hf⟩ := rb_bd hf
                      refine rb_hao C 7 rfl rfl e_61 dX12_make_141 ?_
                      cases v_60 with
                      | none =>
                        dsimp only at hf
                        obtain ⟨h_62, e_63, hf⟩ := rb_bd hf
                        refine rb_hasN C 7 rfl e_63 dX12_make_142 ?_
                        refine rb_iinc (v := (y7_l70_12 + 1)) (lv' := [(7, .int (y7_l70_12 + 1)), (0, .ref o), (1, .int x1), (2, .int x2), (3, .int (8 * x1)), (4, .int ((8 * x1) + 8)), (5, .int (v_6 - x1)), (6, .int y6_l58_10)]) C dX12_make_143 (k := 7) rfl rfl (by decide) rfl ?_
                        refine rb_goto (tgt := 70) C dX12_make_146 (by decide) ?_
                        refine rb_sub [1, 2, 3, 4, 5, 6, 7, 0] rfl ?_
                        exact ih_l70_12 (y7_l70_12 + 1) h_62 n_l70_12 _ _ _ _ hf hb
                      | some v_60_q =>
                        dsimp only at hf
                        obtain ⟨u_65, e_66, hf⟩ := rb_bd hf
                        obtain ⟨h_64, e_67, hf⟩ := rb_bd hf
                        refine rb_hasE C 7 rfl en_ok e_66 e_67 dX12_make_142 ?_
                        refine rb_iinc (v := (y7_l70_12 + 1)) (lv' := [(7, .int (y7_l70_12 + 1)), (0, .ref o), (1, .int x1), (2, .int x2), (3, .int (8 * x1)), (4, .int ((8 * x1) + 8)), (5, .int (v_6 - x1)), (6, .int y6_l58_10)]) C dX12_make_143 (k := 7) rfl rfl (by decide) rfl ?_
                        refine rb_goto (tgt := 70) C dX12_make_146 (by decide) ?_
                        refine rb_sub [1, 2, 3, 4, 5, 6, 7, 0] rfl ?_
                        exact ih_l70_12 (y7_l70_12 + 1) h_64 n_l70_12 _ _ _ _ hf hb
                    refine rb_icmp_lt (tgt := 139) C dX12_make_132 (by decide) (fun c_58 => ?_) (fun c_58 => ?_)
                    · have hf := (if_pos c_58).symm.trans hf
                      refine rb_iconst (v := 0) C dX12_make_139 rfl ?_
                      exact J_j140_59 0  _ _ _ _ hf hb
                    · have hf := (if_neg c_58).symm.trans hf
                      refine rb_iconst (v := 1) C dX12_make_135 rfl ?_
                      refine rb_goto (tgt := 140) C dX12_make_136 (by decide) ?_
                      exact J_j140_59 1  _ _ _ _ hf hb
                  refine rb_icmp_le (tgt := 107) C dX12_make_100 (by decide) (fun c_48 => ?_) (fun c_48 => ?_)
                  · have hf := (if_pos c_48).symm.trans hf
                    refine rb_iconst (v := 0) C dX12_make_107 rfl ?_
                    exact J_j108_49 0  _ _ _ _ hf hb
                  · have hf := (if_neg c_48).symm.trans hf
                    refine rb_iconst (v := 1) C dX12_make_103 rfl ?_
                    refine rb_goto (tgt := 108) C dX12_make_104 (by decide) ?_
                    exact J_j108_49 1  _ _ _ _ hf hb
            refine rb_sub [1, 2, 3, 4, 5, 6, 7, 0] rfl ?_
            exact L_l70_12 4096 0 h_l58_10 n_l58_10 _ _ _ _ hf hb
      refine rb_sub [1, 2, 3, 4, 5, 6, 0] rfl ?_
      exact L_l58_10 4096 x2 h_j55_9 n_j55_9 _ _ _ _ hf hb
    refine rb_icmp_ne (tgt := 55) C dX12_make_25 (by decide) (fun c_8 => ?_) (fun c_8 => ?_)
    · have hf := (if_neg c_8).symm.trans hf
      refine rb_sub [3, 4, 5, 2, 1, 0] rfl ?_
      exact J_j55_9 h n  _ _ _ _ hf hb
    · have hf := (if_pos c_8).symm.trans hf
      refine rb_aload_n C dX12_make_28 rfl 3 rfl ?_
      refine rb_dup C dX12_make_29 rfl ?_
      obtain ⟨v_68, e_69, hf⟩ := rb_bd hf
      refine rb_hJ C fl_X12_108_X12 e_69 dX12_make_30 ?_
      refine rb_lconst (v := 1) C dX12_make_33 rfl ?_
      refine rb_ladd C dX12_make_34 ?_
      obtain ⟨h_70, e_71, hf⟩ := rb_bd hf
      refine rb_hput C fw_X12_108_X12 e_71 rfl rfl dX12_make_35 ?_
      refine rb_aload_n C dX12_make_38 rfl 3 rfl ?_
      refine rb_aload_n C dX12_make_39 rfl 3 rfl ?_
      obtain ⟨v_72, e_73, hf⟩ := rb_bd hf
      refine rb_hI C fl_X12_35_X12 e_73 dX12_make_40 ?_
      refine rb_aload_n C dX12_make_43 rfl 3 rfl ?_
      obtain ⟨v_74, e_75, hf⟩ := rb_bd hf
      refine rb_hP C fl_X12_25_X12 e_75 dX12_make_44 ?_
      refine rb_iload_n C dX12_make_47 rfl 2 rfl ?_
      obtain ⟨v_76, e_77, hf⟩ := rb_bd hf
      refine rb_hil C e_77 dX12_make_48 ?_
      refine rb_mmax C q1831 q288 q81 q289 (Nat.le_of_ble_eq_true rfl) (Nat.le_of_ble_eq_true rfl) hb.c0 hb.s0 dX12_make_49 ?_
      obtain ⟨h_78, e_79, hf⟩ := rb_bd hf
      refine rb_hput C fw_X12_35_X12 e_79 rfl rfl dX12_make_52 ?_
      refine rb_sub [3, 4, 5, 2, 1, 0] rfl ?_
      exact J_j55_9 h_78 n  _ _ _ _ hf hb
def f_Y12_makeAll_l45_10 (Ev : rb_E) (o : Nat) : Nat → Int32 → AH → Nat → Option ((Nat ⊕ (String × Nat)) × AH × Nat × Nat)
  | 0, _, _, _ => none
  | k_l45_10 + 1, y1_l45_10, h_l45_10, n_l45_10 => ((hp_p Ev h_l45_10 o 10 1).bind fun v_11 => ((hp_k Ev h_l45_10 v_11 13).bind fun u_13 => ((f_J1_length Ev h_l45_10 v_11).bind fun v_16 => (if v_16 ≤ y1_l45_10 then ((hp_k Ev h_l45_10 o 10).bind fun u_19 => ((f_Y12_make Ev 30 h_l45_10 n_l45_10 o 0 0).bind fun (r_22, h_23, k_24, s_25) => (ad k_24 s_25 (some (.inl o, h_23, 0, 0))))) else ((hp_p Ev h_l45_10 o 10 3).bind fun v_31 => ((hp_p Ev h_l45_10 o 10 6).bind fun v_33 => ((hp_p Ev h_l45_10 v_33 0 0).bind fun v_35 => ((hp_p Ev h_l45_10 o 10 1).bind fun v_37 => ((hp_k Ev h_l45_10 v_37 13).bind fun u_39 => ((f_J1_charAt Ev h_l45_10 v_37 y1_l45_10).bind fun v_42 => ((hp_k Ev h_l45_10 v_35 1).bind fun u_44 => ((f_X2_meaningOf Ev h_l45_10 n_l45_10 v_35 v_42).bind fun (r_47, h_48, k_49, s_50) => (ad k_49 s_50 (match r_47 with | .inl v_56 => ((hp_en Ev v_56).bind fun u_60 => ((hp_as Ev h_48 7 v_31 y1_l45_10 (some v_56)).bind fun h_59 => ((f_Y12_makeAll_l45_10 Ev o k_l45_10) (y1_l45_10 + 1) h_59 (n_l45_10 + k_49)))) | .inr (E_57, q_58) => (if E_57 = "java/lang/IllegalArgumentException" then (some (.inr ("java/lang/IllegalArgumentException", q_58), h_48, 0, 0)) else none)))))))))))))))
def f_Y12_makeAll_l2_1 (Ev : rb_E) (o : Nat) : Nat → Int32 → AH → Nat → Option ((Nat ⊕ (String × Nat)) × AH × Nat × Nat)
  | 0, _, _, _ => none
  | k_l2_1 + 1, y1_l2_1, h_l2_1, n_l2_1 => ((hp_p Ev h_l2_1 o 10 0).bind fun v_2 => ((hp_k Ev h_l2_1 v_2 13).bind fun u_4 => ((f_J1_length Ev h_l2_1 v_2).bind fun v_7 => (if v_7 ≤ y1_l2_1 then (f_Y12_makeAll_l45_10 Ev o 4096 0 h_l2_1 n_l2_1) else ((hp_p Ev h_l2_1 o 10 2).bind fun v_64 => ((hp_p Ev h_l2_1 o 10 6).bind fun v_66 => ((hp_p Ev h_l2_1 v_66 0 0).bind fun v_68 => ((hp_p Ev h_l2_1 o 10 0).bind fun v_70 => ((hp_k Ev h_l2_1 v_70 13).bind fun u_72 => ((f_J1_charAt Ev h_l2_1 v_70 y1_l2_1).bind fun v_75 => ((hp_k Ev h_l2_1 v_68 1).bind fun u_77 => ((f_X2_valueOf Ev h_l2_1 v_68 v_75).bind fun v_80 => ((hp_is Ev h_l2_1 v_64 y1_l2_1 v_80).bind fun h_82 => ((f_Y12_makeAll_l2_1 Ev o k_l2_1) (y1_l2_1 + 1) h_82 n_l2_1))))))))))))))
def f_Y12_makeAll (Ev : rb_E) (h : AH) (n : Nat) (o : Nat) : Option ((Nat ⊕ (String × Nat)) × AH × Nat × Nat) := (f_Y12_makeAll_l2_1 Ev o 4096 0 h n)
abbrev rm_Y12_makeAll (k s : Nat) : Room := { frames := 73, cells := k, slots := s, locals := 2827 }
set_option maxHeartbeats 4000000 in
theorem ct_Y12_makeAll (Ev : rb_E) (h : AH) (n : Nat) (o : Nat) (r : Nat ⊕ (String × Nat)) (h' : AH) (k s : Nat) (hf : f_Y12_makeAll Ev h n o = some (r, h', k, s)) : Ct Ev yX12_makeAll (ws_ yX12_makeAll cX12_makeAll 2 (some (.object "RainbowOperators$Row"))) (rm_Y12_makeAll k s) [.ref o] h n (pX (rMap (fun v => some (.ref v)) r) h' (n + k)) := by
  rw [f_Y12_makeAll] at hf
  refine Ct.of rfl (Nat.le_of_ble_eq_true rfl) fun X C hnm => ?_
  have C : Cx Ev X RX12 cX12_makeAll 2 (some (.object "RainbowOperators$Row")) [] := C
  show Wa Ev X (rm_Y12_makeAll k s) 2 h n 0 0 (rb_MQ Ev X (rm_Y12_makeAll k s) (pX (rMap (fun v => some (.ref v)) r) h' (n + k))) 0 [(0, .ref o)] []
  have hb : Bd (n + k) k s n 0 0 k s := ⟨rfl, Nat.le_of_eq (Nat.zero_add _), Nat.le_of_eq (Nat.zero_add _)⟩
  refine rb_iconst (v := 0) C dX12_makeAll_0 rfl ?_
  refine rb_istore_n (lv' := [(1, .int 0), (0, .ref o)]) C dX12_makeAll_1 rfl (by decide) rfl ?_
  have L_l2_1 : ∀ (k_l2_1 : Nat) (y1_l2_1 : Int32) (h_l2_1 : AH) (n_l2_1 kc_l2_1 ks_l2_1 a_ b_ : Nat), f_Y12_makeAll_l2_1 Ev o k_l2_1 y1_l2_1 h_l2_1 n_l2_1 = some (r, h', a_, b_) → Bd (n + k) k s n_l2_1 kc_l2_1 ks_l2_1 a_ b_ → Wa Ev X (rm_Y12_makeAll k s) 2 h_l2_1 n_l2_1 kc_l2_1 ks_l2_1 (rb_MQ Ev X (rm_Y12_makeAll k s) (pX (rMap (fun v => some (.ref v)) r) h' (n + k))) 2 [(0, .ref o), (1, .int y1_l2_1)] [] := by
    intro k_l2_1
    induction k_l2_1 with
    | zero => intro y1_l2_1 h_l2_1 n_l2_1 kc_l2_1 ks_l2_1 a_ b_ hf hb; cases hf
    | succ k_l2_1 ih_l2_1 =>
      intro y1_l2_1 h_l2_1 n_l2_1 kc_l2_1 ks_l2_1 a_ b_ hf hb
      rw [f_Y12_makeAll_l2_1] at hf
      refine rb_iload_n C dX12_makeAll_2 rfl 1 rfl ?_
      refine rb_aload_n C dX12_makeAll_3 rfl 0 rfl ?_
      obtain ⟨v_2, e_3, hf⟩ := rb_bd hf
      refine rb_hP C fl_X12_18_X12 e_3 dX12_makeAll_4 ?_
      obtain ⟨u_4, e_5, hf⟩ := rb_bd hf
      obtain ⟨v_7, e_8, hf⟩ := rb_bd hf
      refine rb_callV (As := []) (rest := [.int y1_l2_1]) C mi_J1_length sv_X12_80 (hp_k_isC C.pf e_5 ck_J1) (ct_J1_length Ev h_l2_1 n_l2_1 v_2 _ e_8) rfl rfl (Nat.le_of_ble_eq_true rfl) ⟨Nat.le_of_ble_eq_true rfl, Nat.le_of_ble_eq_true rfl, hb.c0, hb.s0⟩ dX12_makeAll_7 rb_xXi (rb_kXi fun hn_6 => (rb_w (kc := kc_l2_1) (ks := ks_l2_1) rfl rfl ?_))
      refine rb_icmp_ge (tgt := 43) C dX12_makeAll_10 (by decide) (fun c_9 => ?_) (fun c_9 => ?_)
      · have hf := (if_pos c_9).symm.trans hf
        refine rb_iconst (v := 0) C dX12_makeAll_43 rfl ?_
        refine rb_istore_n (lv' := [(1, .int 0), (0, .ref o)]) C dX12_makeAll_44 rfl (by decide) rfl ?_
        have L_l45_10 : ∀ (k_l45_10 : Nat) (y1_l45_10 : Int32) (h_l45_10 : AH) (n_l45_10 kc_l45_10 ks_l45_10 a_ b_ : Nat), f_Y12_makeAll_l45_10 Ev o k_l45_10 y1_l45_10 h_l45_10 n_l45_10 = some (r, h', a_, b_) → Bd (n + k) k s n_l45_10 kc_l45_10 ks_l45_10 a_ b_ → Wa Ev X (rm_Y12_makeAll k s) 2 h_l45_10 n_l45_10 kc_l45_10 ks_l45_10 (rb_MQ Ev X (rm_Y12_makeAll k s) (pX (rMap (fun v => some (.ref v)) r) h' (n + k))) 45 [(0, .ref o), (1, .int y1_l45_10)] [] := by
          intro k_l45_10
          induction k_l45_10 with
          | zero => intro y1_l45_10 h_l45_10 n_l45_10 kc_l45_10 ks_l45_10 a_ b_ hf hb; cases hf
          | succ k_l45_10 ih_l45_10 =>
            intro y1_l45_10 h_l45_10 n_l45_10 kc_l45_10 ks_l45_10 a_ b_ hf hb
            rw [f_Y12_makeAll_l45_10] at hf
            refine rb_iload_n C dX12_makeAll_45 rfl 1 rfl ?_
            refine rb_aload_n C dX12_makeAll_46 rfl 0 rfl ?_
            obtain ⟨v_11, e_12, hf⟩ := rb_bd hf
            refine rb_hP C fl_X12_22_X12 e_12 dX12_makeAll_47 ?_
            obtain ⟨u_13, e_14, hf⟩ := rb_bd hf
            obtain ⟨v_16, e_17, hf⟩ := rb_bd hf
            refine rb_callV (As := []) (rest := [.int y1_l45_10]) C mi_J1_length sv_X12_80 (hp_k_isC C.pf e_14 ck_J1) (ct_J1_length Ev h_l45_10 n_l45_10 v_11 _ e_17) rfl rfl (Nat.le_of_ble_eq_true rfl) ⟨Nat.le_of_ble_eq_true rfl, Nat.le_of_ble_eq_true rfl, hb.c0, hb.s0⟩ dX12_makeAll_50 rb_xXi (rb_kXi fun hn_15 => (rb_w (kc := kc_l45_10) (ks := ks_l45_10) rfl rfl ?_))
            refine rb_icmp_ge (tgt := 86) C dX12_makeAll_53 (by decide) (fun c_18 => ?_) (fun c_18 => ?_)
            · have hf := (if_pos c_18).symm.trans hf
              refine rb_aload_n C dX12_makeAll_86 rfl 0 rfl ?_
              refine rb_iconst (v := 0) C dX12_makeAll_87 rfl ?_
              refine rb_iconst (v := 0) C dX12_makeAll_88 rfl ?_
              obtain ⟨u_19, e_20, hf⟩ := rb_bd hf
              obtain ⟨⟨r_22, h_23, k_24, s_25⟩, e_26, hf⟩ := rb_bd hf
              obtain ⟨a_29, b_30, hf, ea_27, eb_28⟩ := ad_at hf
              refine rb_callV (As := [.int 0, .int 0]) (rest := []) C mi_X12_make sv_X12_117 (hp_k_isC C.pf e_20 ck_X12) (ct_Y12_make Ev h_l45_10 n_l45_10 30 o 0 0 r_22 _ _ _ e_26) rfl rfl (Nat.le_of_ble_eq_true rfl) ⟨Nat.le_of_ble_eq_true rfl, Nat.le_of_ble_eq_true rfl, Bd.c1 hb ea_27, Bd.s1 hb eb_28⟩ dX12_makeAll_89 rb_xX (rb_kX (rb_w (kc := (kc_l45_10 + k_24)) (ks := (ks_l45_10 + s_25)) rfl rfl ?_))
              have hb := Bd.ade hb ea_27 eb_28
              refine rb_aload_n C dX12_makeAll_92 rfl 0 rfl ?_
              cases hf
              exact rb_aret C rfl (Or.inl ⟨_, rfl⟩) (Or.inr ⟨_, rfl⟩) hb.e.2.1 hb.e.2.2 dX12_makeAll_93 ⟨rfl, rfl, hb.e.1⟩
            · have hf := (if_neg c_18).symm.trans hf
              refine rb_aload_n C dX12_makeAll_56 rfl 0 rfl ?_
              obtain ⟨v_31, e_32, hf⟩ := rb_bd hf
              refine rb_hP C fl_X12_31_X12 e_32 dX12_makeAll_57 ?_
              refine rb_iload_n C dX12_makeAll_60 rfl 1 rfl ?_
              refine rb_aload_n C dX12_makeAll_61 rfl 0 rfl ?_
              obtain ⟨v_33, e_34, hf⟩ := rb_bd hf
              refine rb_hP C fl_X12_3_X12 e_34 dX12_makeAll_62 ?_
              obtain ⟨v_35, e_36, hf⟩ := rb_bd hf
              refine rb_hP C fl_X12_47_X1 e_36 dX12_makeAll_65 ?_
              refine rb_aload_n C dX12_makeAll_68 rfl 0 rfl ?_
              obtain ⟨v_37, e_38, hf⟩ := rb_bd hf
              refine rb_hP C fl_X12_22_X12 e_38 dX12_makeAll_69 ?_
              refine rb_iload_n C dX12_makeAll_72 rfl 1 rfl ?_
              obtain ⟨u_39, e_40, hf⟩ := rb_bd hf
              obtain ⟨v_42, e_43, hf⟩ := rb_bd hf
              refine rb_callV (As := [.int y1_l45_10]) (rest := [.ref v_35, .int y1_l45_10, .ref v_31]) C mi_J1_charAt sv_X12_56 (hp_k_isC C.pf e_40 ck_J1) (ct_J1_charAt Ev h_l45_10 n_l45_10 v_37 y1_l45_10 _ e_43) rfl rfl (Nat.le_of_ble_eq_true rfl) ⟨Nat.le_of_ble_eq_true rfl, Nat.le_of_ble_eq_true rfl, hb.c0, hb.s0⟩ dX12_makeAll_73 rb_xXi (rb_kXi fun hn_41 => (rb_w (kc := kc_l45_10) (ks := ks_l45_10) rfl rfl ?_))
              obtain ⟨u_44, e_45, hf⟩ := rb_bd hf
              obtain ⟨⟨r_47, h_48, k_49, s_50⟩, e_51, hf⟩ := rb_bd hf
              obtain ⟨a_54, b_55, hf, ea_52, eb_53⟩ := ad_at hf
              rcases r_47 with v_56 | ⟨E_57, q_58⟩
              · dsimp only at hf
                refine rb_callV (As := [.int v_42]) (rest := [.int y1_l45_10, .ref v_31]) C mi_X2_meaningOf sv_X12_94 (hp_k_isC C.pf e_45 ck_X2) (ct_X2_meaningOf Ev h_l45_10 n_l45_10 v_35 v_42 (.inl v_56) _ _ _ e_51) rfl rfl (Nat.le_of_ble_eq_true rfl) ⟨Nat.le_of_ble_eq_true rfl, Nat.le_of_ble_eq_true rfl, Bd.c1 hb ea_52, Bd.s1 hb eb_53⟩ dX12_makeAll_76 rb_xX (rb_kX (r := some (.ref v_56)) (rb_w (kc := (kc_l45_10 + k_49)) (ks := (ks_l45_10 + s_50)) rfl rfl ?_))
                have hb := Bd.ade hb ea_52 eb_53
                obtain ⟨u_60, e_61, hf⟩ := rb_bd hf
                obtain ⟨h_59, e_62, hf⟩ := rb_bd hf
                refine rb_hasE C 7 rfl en_ok e_61 e_62 dX12_makeAll_79 ?_
                refine rb_iinc (v := (y1_l45_10 + 1)) (lv' := [(1, .int (y1_l45_10 + 1)), (0, .ref o)]) C dX12_makeAll_80 (k := 1) rfl rfl (by decide) rfl ?_
                refine rb_goto (tgt := 45) C dX12_makeAll_83 (by decide) ?_
                refine rb_sub [1, 0] rfl ?_
                exact ih_l45_10 (y1_l45_10 + 1) h_59 (n_l45_10 + k_49) _ _ _ _ hf hb
              · dsimp only at hf
                by_cases c_63 : E_57 = "java/lang/IllegalArgumentException"
                · have hf := (if_pos c_63).symm.trans hf
                  subst c_63
                  refine rb_callV (As := [.int v_42]) (rest := [.int y1_l45_10, .ref v_31]) C mi_X2_meaningOf sv_X12_94 (hp_k_isC C.pf e_45 ck_X2) (ct_X2_meaningOf Ev h_l45_10 n_l45_10 v_35 v_42 (.inr ("java/lang/IllegalArgumentException", q_58)) _ _ _ e_51) rfl rfl (Nat.le_of_ble_eq_true rfl) ⟨Nat.le_of_ble_eq_true rfl, Nat.le_of_ble_eq_true rfl, Bd.c1 hb ea_52, Bd.s1 hb eb_53⟩ dX12_makeAll_76 (rb_xY (E := "java/lang/IllegalArgumentException") (rb_wX (kc := (kc_l45_10 + k_49)) (ks := (ks_l45_10 + s_50)) rfl rfl ?_)) rb_kY
                  have hb := Bd.ade hb ea_52 eb_53
                  cases hf
                  exact rb_out C (fun _ z => absurd z List.not_mem_nil) hb.e.2.1 hb.e.2.2 ⟨rfl, rfl, hb.e.1⟩
                have hf := (if_neg c_63).symm.trans hf
                cases hf
        refine rb_sub [1, 0] rfl ?_
        exact L_l45_10 4096 0 h_l2_1 n_l2_1 _ _ _ _ hf hb
      · have hf := (if_neg c_9).symm.trans hf
        refine rb_aload_n C dX12_makeAll_13 rfl 0 rfl ?_
        obtain ⟨v_64, e_65, hf⟩ := rb_bd hf
        refine rb_hP C fl_X12_25_X12 e_65 dX12_makeAll_14 ?_
        refine rb_iload_n C dX12_makeAll_17 rfl 1 rfl ?_
        refine rb_aload_n C dX12_makeAll_18 rfl 0 rfl ?_
        obtain ⟨v_66, e_67, hf⟩ := rb_bd hf
        refine rb_hP C fl_X12_3_X12 e_67 dX12_makeAll_19 ?_
        obtain ⟨v_68, e_69, hf⟩ := rb_bd hf
        refine rb_hP C fl_X12_47_X1 e_69 dX12_makeAll_22 ?_
        refine rb_aload_n C dX12_makeAll_25 rfl 0 rfl ?_
        obtain ⟨v_70, e_71, hf⟩ := rb_bd hf
        refine rb_hP C fl_X12_18_X12 e_71 dX12_makeAll_26 ?_
        refine rb_iload_n C dX12_makeAll_29 rfl 1 rfl ?_
        obtain ⟨u_72, e_73, hf⟩ := rb_bd hf
        obtain ⟨v_75, e_76, hf⟩ := rb_bd hf
        refine rb_callV (As := [.int y1_l2_1]) (rest := [.ref v_68, .int y1_l2_1, .ref v_64]) C mi_J1_charAt sv_X12_56 (hp_k_isC C.pf e_73 ck_J1) (ct_J1_charAt Ev h_l2_1 n_l2_1 v_70 y1_l2_1 _ e_76) rfl rfl (Nat.le_of_ble_eq_true rfl) ⟨Nat.le_of_ble_eq_true rfl, Nat.le_of_ble_eq_true rfl, hb.c0, hb.s0⟩ dX12_makeAll_30 rb_xXi (rb_kXi fun hn_74 => (rb_w (kc := kc_l2_1) (ks := ks_l2_1) rfl rfl ?_))
        obtain ⟨u_77, e_78, hf⟩ := rb_bd hf
        obtain ⟨v_80, e_81, hf⟩ := rb_bd hf
        refine rb_callV (As := [.int v_75]) (rest := [.int y1_l2_1, .ref v_64]) C mi_X2_valueOf sv_X12_90 (hp_k_isC C.pf e_78 ck_X2) (ct_X2_valueOf Ev h_l2_1 n_l2_1 v_68 v_75 _ e_81) rfl rfl (Nat.le_of_ble_eq_true rfl) ⟨Nat.le_of_ble_eq_true rfl, Nat.le_of_ble_eq_true rfl, hb.c0, hb.s0⟩ dX12_makeAll_33 rb_xXi (rb_kXi fun hn_79 => (rb_w (kc := kc_l2_1) (ks := ks_l2_1) rfl rfl ?_))
        obtain ⟨h_82, e_83, hf⟩ := rb_bd hf
        refine rb_his C e_83 dX12_makeAll_36 ?_
        refine rb_iinc (v := (y1_l2_1 + 1)) (lv' := [(1, .int (y1_l2_1 + 1)), (0, .ref o)]) C dX12_makeAll_37 (k := 1) rfl rfl (by decide) rfl ?_
        refine rb_goto (tgt := 2) C dX12_makeAll_40 (by decide) ?_
        refine rb_sub [1, 0] rfl ?_
        exact ih_l2_1 (y1_l2_1 + 1) h_82 n_l2_1 _ _ _ _ hf hb
  refine rb_sub [1, 0] rfl ?_
  exact L_l2_1 4096 0 h n _ _ _ _ hf hb
def f_Y1_bracketingsByMaking (Ev : rb_E) (h : AH) (n : Nat) (o : Nat) : Option ((Int64 ⊕ (String × Nat)) × AH × Nat × Nat) := (ad 1 7 (rb_lt (va_up h n (some (.inr (10, [.null, .null, .null, .null, .int 0, .long 0, .null])))) fun h_5 => ((f_Y12_init Ev h_5 (n + 1) n o).bind fun (r_7, h_8, k_9, s_10) => (ad k_9 s_10 (match r_7 with | .inl v_16 => ((hp_k Ev h_8 n 10).bind fun u_19 => ((f_Y12_makeAll Ev h_8 ((n + 1) + k_9) n).bind fun (r_22, h_23, k_24, s_25) => (ad k_24 s_25 (match r_22 with | .inl v_31 => ((hp_j Ev h_23 v_31 10 5).bind fun v_34 => (some (.inl v_34, h_23, 0, 0))) | .inr (E_32, q_33) => (if E_32 = "java/lang/IllegalArgumentException" then (some (.inr ("java/lang/IllegalArgumentException", q_33), h_23, 0, 0)) else none))))) | .inr (E_17, q_18) => (if E_17 = "java/lang/UnsupportedOperationException" then (some (.inr ("java/lang/UnsupportedOperationException", q_18), h_8, 0, 0)) else none))))))
abbrev rm_Y1_bracketingsByMaking (k s : Nat) : Room := { frames := 76, cells := k, slots := s, locals := 2890 }
set_option maxHeartbeats 4000000 in
theorem ct_Y1_bracketingsByMaking (Ev : rb_E) (h : AH) (n : Nat) (o : Nat) (r : Int64 ⊕ (String × Nat)) (h' : AH) (k s : Nat) (hf : f_Y1_bracketingsByMaking Ev h n o = some (r, h', k, s)) : Ct Ev yX1_bracketingsByMaking (ws_ yX1_bracketingsByMaking cX1_bracketingsByMaking 1 (some .long)) (rm_Y1_bracketingsByMaking k s) [.ref o] h n (pX (rMap (fun v => some (.long v)) r) h' (n + k)) := by
  rw [f_Y1_bracketingsByMaking] at hf
  refine Ct.of rfl (Nat.le_of_ble_eq_true rfl) fun X C hnm => ?_
  have C : Cx Ev X RX1 cX1_bracketingsByMaking 1 (some .long) [] := C
  show Wa Ev X (rm_Y1_bracketingsByMaking k s) 1 h n 0 0 (rb_MQ Ev X (rm_Y1_bracketingsByMaking k s) (pX (rMap (fun v => some (.long v)) r) h' (n + k))) 0 [(0, .ref o)] []
  have hb : Bd (n + k) k s n 0 0 k s := ⟨rfl, Nat.le_of_eq (Nat.zero_add _), Nat.le_of_eq (Nat.zero_add _)⟩
  obtain ⟨a_3, b_4, hf, ea_1, eb_2⟩ := ad_at hf
  refine rb_hnew C ck_X12 q1766 q1767 q108 [.null, .null, .null, .null, .int 0, .long 0, .null] rfl (Bd.c1 hb ea_1) (Bd.s1 hb eb_2) dX1_bracketingsByMaking_0 ?_
  have hb := Bd.ade hb ea_1 eb_2
  obtain ⟨h_5, e_h_5⟩ : ∃ z, z = (va_up h n (some (.inr (10, [.null, .null, .null, .null, .int 0, .long 0, .null])))) := ⟨_, rfl⟩
  rw [← e_h_5]
  have hf := rb_let hf e_h_5
  refine rb_dup C dX1_bracketingsByMaking_3 rfl ?_
  refine rb_aload_n C dX1_bracketingsByMaking_4 rfl 0 rfl ?_
  obtain ⟨⟨r_7, h_8, k_9, s_10⟩, e_11, hf⟩ := rb_bd hf
  obtain ⟨a_14, b_15, hf, ea_12, eb_13⟩ := ad_at hf
  rcases r_7 with v_16 | ⟨E_17, q_18⟩
  · dsimp only at hf
    refine rb_callI (As := [.ref o]) (rest := [.ref n]) C mi_X12_init si_X1_297 (ct_Y12_init Ev h_5 (n + 1) n o (.inl v_16) _ _ _ e_11) rfl rfl (Nat.le_of_ble_eq_true rfl) ⟨Nat.le_of_ble_eq_true rfl, Nat.le_of_ble_eq_true rfl, Bd.c1 hb ea_12, Bd.s1 hb eb_13⟩ dX1_bracketingsByMaking_5 rb_xX (rb_kX (r := none) (rb_w (kc := ((0 + 1) + k_9)) (ks := ((0 + 7) + s_10)) rfl rfl ?_))
    have hb := Bd.ade hb ea_12 eb_13
    obtain ⟨u_19, e_20, hf⟩ := rb_bd hf
    obtain ⟨⟨r_22, h_23, k_24, s_25⟩, e_26, hf⟩ := rb_bd hf
    obtain ⟨a_29, b_30, hf, ea_27, eb_28⟩ := ad_at hf
    rcases r_22 with v_31 | ⟨E_32, q_33⟩
    · dsimp only at hf
      refine rb_callV (As := []) (rest := []) C mi_X12_makeAll sv_X1_304 (hp_k_isC C.pf e_20 ck_X12) (ct_Y12_makeAll Ev h_8 ((n + 1) + k_9) n (.inl v_31) _ _ _ e_26) rfl rfl (Nat.le_of_ble_eq_true rfl) ⟨Nat.le_of_ble_eq_true rfl, Nat.le_of_ble_eq_true rfl, Bd.c1 hb ea_27, Bd.s1 hb eb_28⟩ dX1_bracketingsByMaking_8 rb_xX (rb_kX (r := some (.ref v_31)) (rb_w (kc := (((0 + 1) + k_9) + k_24)) (ks := (((0 + 7) + s_10) + s_25)) rfl rfl ?_))
      have hb := Bd.ade hb ea_27 eb_28
      obtain ⟨v_34, e_35, hf⟩ := rb_bd hf
      refine rb_hJ C fl_X1_308_X12 e_35 dX1_bracketingsByMaking_11 ?_
      cases hf
      exact rb_lret C rfl hb.e.2.1 hb.e.2.2 dX1_bracketingsByMaking_14 ⟨rfl, rfl, hb.e.1⟩
    · dsimp only at hf
      by_cases c_36 : E_32 = "java/lang/IllegalArgumentException"
      · have hf := (if_pos c_36).symm.trans hf
        subst c_36
        refine rb_callV (As := []) (rest := []) C mi_X12_makeAll sv_X1_304 (hp_k_isC C.pf e_20 ck_X12) (ct_Y12_makeAll Ev h_8 ((n + 1) + k_9) n (.inr ("java/lang/IllegalArgumentException", q_33)) _ _ _ e_26) rfl rfl (Nat.le_of_ble_eq_true rfl) ⟨Nat.le_of_ble_eq_true rfl, Nat.le_of_ble_eq_true rfl, Bd.c1 hb ea_27, Bd.s1 hb eb_28⟩ dX1_bracketingsByMaking_8 (rb_xY (E := "java/lang/IllegalArgumentException") (rb_wX (kc := (((0 + 1) + k_9) + k_24)) (ks := (((0 + 7) + s_10) + s_25)) rfl rfl ?_)) rb_kY
        have hb := Bd.ade hb ea_27 eb_28
        cases hf
        exact rb_out C (fun _ z => absurd z List.not_mem_nil) hb.e.2.1 hb.e.2.2 ⟨rfl, rfl, hb.e.1⟩
      have hf := (if_neg c_36).symm.trans hf
      cases hf
  · dsimp only at hf
    by_cases c_37 : E_17 = "java/lang/UnsupportedOperationException"
    · have hf := (if_pos c_37).symm.trans hf
      subst c_37
      refine rb_callI (As := [.ref o]) (rest := [.ref n]) C mi_X12_init si_X1_297 (ct_Y12_init Ev h_5 (n + 1) n o (.inr ("java/lang/UnsupportedOperationException", q_18)) _ _ _ e_11) rfl rfl (Nat.le_of_ble_eq_true rfl) ⟨Nat.le_of_ble_eq_true rfl, Nat.le_of_ble_eq_true rfl, Bd.c1 hb ea_12, Bd.s1 hb eb_13⟩ dX1_bracketingsByMaking_5 (rb_xY (E := "java/lang/UnsupportedOperationException") (rb_wX (kc := ((0 + 1) + k_9)) (ks := ((0 + 7) + s_10)) rfl rfl ?_)) rb_kY
      have hb := Bd.ade hb ea_12 eb_13
      cases hf
      exact rb_out C (fun _ z => absurd z List.not_mem_nil) hb.e.2.1 hb.e.2.2 ⟨rfl, rfl, hb.e.1⟩
    have hf := (if_neg c_37).symm.trans hf
    cases hf
def f_Y1_greatest (Ev : rb_E) (h : AH) (n : Nat) (o : Nat) : Option ((Int32 ⊕ (String × Nat)) × AH × Nat × Nat) := (ad 1 7 (rb_lt (va_up h n (some (.inr (10, [.null, .null, .null, .null, .int 0, .long 0, .null])))) fun h_5 => ((f_Y12_init Ev h_5 (n + 1) n o).bind fun (r_7, h_8, k_9, s_10) => (ad k_9 s_10 (match r_7 with | .inl v_16 => ((hp_k Ev h_8 n 10).bind fun u_19 => ((f_X12_values Ev h_8 ((n + 1) + k_9) n).bind fun (r_22, h_23, k_24, s_25) => (ad k_24 s_25 ((hp_len Ev h_23 r_22 0).bind fun v_31 => ((hp_il Ev h_23 r_22 ((nI v_31) - 1)).bind fun v_33 => (some (.inl v_33, h_23, 0, 0))))))) | .inr (E_17, q_18) => (if E_17 = "java/lang/UnsupportedOperationException" then (some (.inr ("java/lang/UnsupportedOperationException", q_18), h_8, 0, 0)) else none))))))
abbrev rm_Y1_greatest (k s : Nat) : Room := { frames := 76, cells := k, slots := s, locals := 2890 }
set_option maxHeartbeats 4000000 in
theorem ct_Y1_greatest (Ev : rb_E) (h : AH) (n : Nat) (o : Nat) (r : Int32 ⊕ (String × Nat)) (h' : AH) (k s : Nat) (hf : f_Y1_greatest Ev h n o = some (r, h', k, s)) : Ct Ev yX1_greatest (ws_ yX1_greatest cX1_greatest 2 (some .int)) (rm_Y1_greatest k s) [.ref o] h n (pX (rMap (fun v => some (.int v)) r) h' (n + k)) := by
  rw [f_Y1_greatest] at hf
  refine Ct.of rfl (Nat.le_of_ble_eq_true rfl) fun X C hnm => ?_
  have C : Cx Ev X RX1 cX1_greatest 2 (some .int) [] := C
  show Wa Ev X (rm_Y1_greatest k s) 2 h n 0 0 (rb_MQ Ev X (rm_Y1_greatest k s) (pX (rMap (fun v => some (.int v)) r) h' (n + k))) 0 [(0, .ref o)] []
  have hb : Bd (n + k) k s n 0 0 k s := ⟨rfl, Nat.le_of_eq (Nat.zero_add _), Nat.le_of_eq (Nat.zero_add _)⟩
  obtain ⟨a_3, b_4, hf, ea_1, eb_2⟩ := ad_at hf
  refine rb_hnew C ck_X12 q1766 q1767 q108 [.null, .null, .null, .null, .int 0, .long 0, .null] rfl (Bd.c1 hb ea_1) (Bd.s1 hb eb_2) dX1_greatest_0 ?_
  have hb := Bd.ade hb ea_1 eb_2
  obtain ⟨h_5, e_h_5⟩ : ∃ z, z = (va_up h n (some (.inr (10, [.null, .null, .null, .null, .int 0, .long 0, .null])))) := ⟨_, rfl⟩
  rw [← e_h_5]
  have hf := rb_let hf e_h_5
  refine rb_dup C dX1_greatest_3 rfl ?_
  refine rb_aload_n C dX1_greatest_4 rfl 0 rfl ?_
  obtain ⟨⟨r_7, h_8, k_9, s_10⟩, e_11, hf⟩ := rb_bd hf
  obtain ⟨a_14, b_15, hf, ea_12, eb_13⟩ := ad_at hf
  rcases r_7 with v_16 | ⟨E_17, q_18⟩
  · dsimp only at hf
    refine rb_callI (As := [.ref o]) (rest := [.ref n]) C mi_X12_init si_X1_297 (ct_Y12_init Ev h_5 (n + 1) n o (.inl v_16) _ _ _ e_11) rfl rfl (Nat.le_of_ble_eq_true rfl) ⟨Nat.le_of_ble_eq_true rfl, Nat.le_of_ble_eq_true rfl, Bd.c1 hb ea_12, Bd.s1 hb eb_13⟩ dX1_greatest_5 rb_xX (rb_kX (r := none) (rb_w (kc := ((0 + 1) + k_9)) (ks := ((0 + 7) + s_10)) rfl rfl ?_))
    have hb := Bd.ade hb ea_12 eb_13
    obtain ⟨u_19, e_20, hf⟩ := rb_bd hf
    obtain ⟨⟨r_22, h_23, k_24, s_25⟩, e_26, hf⟩ := rb_bd hf
    obtain ⟨a_29, b_30, hf, ea_27, eb_28⟩ := ad_at hf
    refine rb_callV (As := []) (rest := []) C mi_X12_values sv_X1_312 (hp_k_isC C.pf e_20 ck_X12) (ct_X12_values Ev h_8 ((n + 1) + k_9) n r_22 _ _ _ e_26) rfl rfl (Nat.le_of_ble_eq_true rfl) ⟨Nat.le_of_ble_eq_true rfl, Nat.le_of_ble_eq_true rfl, Bd.c1 hb ea_27, Bd.s1 hb eb_28⟩ dX1_greatest_8 rb_xX (rb_kX (rb_w (kc := (((0 + 1) + k_9) + k_24)) (ks := (((0 + 7) + s_10) + s_25)) rfl rfl ?_))
    have hb := Bd.ade hb ea_27 eb_28
    refine rb_astore_n (lv' := [(1, .ref r_22), (0, .ref o)]) C dX1_greatest_11 rfl (by decide) rfl ?_
    refine rb_aload_n C dX1_greatest_12 rfl 0 rfl ?_
    refine rb_aload_n C dX1_greatest_13 rfl 0 rfl ?_
    obtain ⟨v_31, e_32, hf⟩ := rb_bd hf
    refine rb_hlen (t := 0) C rfl e_32 dX1_greatest_14 ?_
    refine rb_iconst (v := 1) C dX1_greatest_15 rfl ?_
    refine rb_isub C dX1_greatest_16 ?_
    obtain ⟨v_33, e_34, hf⟩ := rb_bd hf
    refine rb_hil C e_34 dX1_greatest_17 ?_
    cases hf
    exact rb_iret C rfl rfl hb.e.2.1 hb.e.2.2 dX1_greatest_18 ⟨rfl, rfl, hb.e.1⟩
  · dsimp only at hf
    by_cases c_35 : E_17 = "java/lang/UnsupportedOperationException"
    · have hf := (if_pos c_35).symm.trans hf
      subst c_35
      refine rb_callI (As := [.ref o]) (rest := [.ref n]) C mi_X12_init si_X1_297 (ct_Y12_init Ev h_5 (n + 1) n o (.inr ("java/lang/UnsupportedOperationException", q_18)) _ _ _ e_11) rfl rfl (Nat.le_of_ble_eq_true rfl) ⟨Nat.le_of_ble_eq_true rfl, Nat.le_of_ble_eq_true rfl, Bd.c1 hb ea_12, Bd.s1 hb eb_13⟩ dX1_greatest_5 (rb_xY (E := "java/lang/UnsupportedOperationException") (rb_wX (kc := ((0 + 1) + k_9)) (ks := ((0 + 7) + s_10)) rfl rfl ?_)) rb_kY
      have hb := Bd.ade hb ea_12 eb_13
      cases hf
      exact rb_out C (fun _ z => absurd z List.not_mem_nil) hb.e.2.1 hb.e.2.2 ⟨rfl, rfl, hb.e.1⟩
    have hf := (if_neg c_35).symm.trans hf
    cases hf
def f_Y1_greatestByMaking (Ev : rb_E) (h : AH) (n : Nat) (o : Nat) : Option ((Int32 ⊕ (String × Nat)) × AH × Nat × Nat) := (ad 1 7 (rb_lt (va_up h n (some (.inr (10, [.null, .null, .null, .null, .int 0, .long 0, .null])))) fun h_5 => ((f_Y12_init Ev h_5 (n + 1) n o).bind fun (r_7, h_8, k_9, s_10) => (ad k_9 s_10 (match r_7 with | .inl v_16 => ((hp_k Ev h_8 n 10).bind fun u_19 => ((f_Y12_makeAll Ev h_8 ((n + 1) + k_9) n).bind fun (r_22, h_23, k_24, s_25) => (ad k_24 s_25 (match r_22 with | .inl v_31 => ((hp_i Ev h_23 v_31 10 4).bind fun v_34 => (some (.inl v_34, h_23, 0, 0))) | .inr (E_32, q_33) => (if E_32 = "java/lang/IllegalArgumentException" then (some (.inr ("java/lang/IllegalArgumentException", q_33), h_23, 0, 0)) else none))))) | .inr (E_17, q_18) => (if E_17 = "java/lang/UnsupportedOperationException" then (some (.inr ("java/lang/UnsupportedOperationException", q_18), h_8, 0, 0)) else none))))))
abbrev rm_Y1_greatestByMaking (k s : Nat) : Room := { frames := 76, cells := k, slots := s, locals := 2890 }
set_option maxHeartbeats 4000000 in
theorem ct_Y1_greatestByMaking (Ev : rb_E) (h : AH) (n : Nat) (o : Nat) (r : Int32 ⊕ (String × Nat)) (h' : AH) (k s : Nat) (hf : f_Y1_greatestByMaking Ev h n o = some (r, h', k, s)) : Ct Ev yX1_greatestByMaking (ws_ yX1_greatestByMaking cX1_greatestByMaking 1 (some .int)) (rm_Y1_greatestByMaking k s) [.ref o] h n (pX (rMap (fun v => some (.int v)) r) h' (n + k)) := by
  rw [f_Y1_greatestByMaking] at hf
  refine Ct.of rfl (Nat.le_of_ble_eq_true rfl) fun X C hnm => ?_
  have C : Cx Ev X RX1 cX1_greatestByMaking 1 (some .int) [] := C
  show Wa Ev X (rm_Y1_greatestByMaking k s) 1 h n 0 0 (rb_MQ Ev X (rm_Y1_greatestByMaking k s) (pX (rMap (fun v => some (.int v)) r) h' (n + k))) 0 [(0, .ref o)] []
  have hb : Bd (n + k) k s n 0 0 k s := ⟨rfl, Nat.le_of_eq (Nat.zero_add _), Nat.le_of_eq (Nat.zero_add _)⟩
  obtain ⟨a_3, b_4, hf, ea_1, eb_2⟩ := ad_at hf
  refine rb_hnew C ck_X12 q1766 q1767 q108 [.null, .null, .null, .null, .int 0, .long 0, .null] rfl (Bd.c1 hb ea_1) (Bd.s1 hb eb_2) dX1_greatestByMaking_0 ?_
  have hb := Bd.ade hb ea_1 eb_2
  obtain ⟨h_5, e_h_5⟩ : ∃ z, z = (va_up h n (some (.inr (10, [.null, .null, .null, .null, .int 0, .long 0, .null])))) := ⟨_, rfl⟩
  rw [← e_h_5]
  have hf := rb_let hf e_h_5
  refine rb_dup C dX1_greatestByMaking_3 rfl ?_
  refine rb_aload_n C dX1_greatestByMaking_4 rfl 0 rfl ?_
  obtain ⟨⟨r_7, h_8, k_9, s_10⟩, e_11, hf⟩ := rb_bd hf
  obtain ⟨a_14, b_15, hf, ea_12, eb_13⟩ := ad_at hf
  rcases r_7 with v_16 | ⟨E_17, q_18⟩
  · dsimp only at hf
    refine rb_callI (As := [.ref o]) (rest := [.ref n]) C mi_X12_init si_X1_297 (ct_Y12_init Ev h_5 (n + 1) n o (.inl v_16) _ _ _ e_11) rfl rfl (Nat.le_of_ble_eq_true rfl) ⟨Nat.le_of_ble_eq_true rfl, Nat.le_of_ble_eq_true rfl, Bd.c1 hb ea_12, Bd.s1 hb eb_13⟩ dX1_greatestByMaking_5 rb_xX (rb_kX (r := none) (rb_w (kc := ((0 + 1) + k_9)) (ks := ((0 + 7) + s_10)) rfl rfl ?_))
    have hb := Bd.ade hb ea_12 eb_13
    obtain ⟨u_19, e_20, hf⟩ := rb_bd hf
    obtain ⟨⟨r_22, h_23, k_24, s_25⟩, e_26, hf⟩ := rb_bd hf
    obtain ⟨a_29, b_30, hf, ea_27, eb_28⟩ := ad_at hf
    rcases r_22 with v_31 | ⟨E_32, q_33⟩
    · dsimp only at hf
      refine rb_callV (As := []) (rest := []) C mi_X12_makeAll sv_X1_304 (hp_k_isC C.pf e_20 ck_X12) (ct_Y12_makeAll Ev h_8 ((n + 1) + k_9) n (.inl v_31) _ _ _ e_26) rfl rfl (Nat.le_of_ble_eq_true rfl) ⟨Nat.le_of_ble_eq_true rfl, Nat.le_of_ble_eq_true rfl, Bd.c1 hb ea_27, Bd.s1 hb eb_28⟩ dX1_greatestByMaking_8 rb_xX (rb_kX (r := some (.ref v_31)) (rb_w (kc := (((0 + 1) + k_9) + k_24)) (ks := (((0 + 7) + s_10) + s_25)) rfl rfl ?_))
      have hb := Bd.ade hb ea_27 eb_28
      obtain ⟨v_34, e_35, hf⟩ := rb_bd hf
      refine rb_hI C fl_X1_316_X12 e_35 dX1_greatestByMaking_11 ?_
      cases hf
      exact rb_iret C rfl rfl hb.e.2.1 hb.e.2.2 dX1_greatestByMaking_14 ⟨rfl, rfl, hb.e.1⟩
    · dsimp only at hf
      by_cases c_36 : E_32 = "java/lang/IllegalArgumentException"
      · have hf := (if_pos c_36).symm.trans hf
        subst c_36
        refine rb_callV (As := []) (rest := []) C mi_X12_makeAll sv_X1_304 (hp_k_isC C.pf e_20 ck_X12) (ct_Y12_makeAll Ev h_8 ((n + 1) + k_9) n (.inr ("java/lang/IllegalArgumentException", q_33)) _ _ _ e_26) rfl rfl (Nat.le_of_ble_eq_true rfl) ⟨Nat.le_of_ble_eq_true rfl, Nat.le_of_ble_eq_true rfl, Bd.c1 hb ea_27, Bd.s1 hb eb_28⟩ dX1_greatestByMaking_8 (rb_xY (E := "java/lang/IllegalArgumentException") (rb_wX (kc := (((0 + 1) + k_9) + k_24)) (ks := (((0 + 7) + s_10) + s_25)) rfl rfl ?_)) rb_kY
        have hb := Bd.ade hb ea_27 eb_28
        cases hf
        exact rb_out C (fun _ z => absurd z List.not_mem_nil) hb.e.2.1 hb.e.2.2 ⟨rfl, rfl, hb.e.1⟩
      have hf := (if_neg c_36).symm.trans hf
      cases hf
  · dsimp only at hf
    by_cases c_37 : E_17 = "java/lang/UnsupportedOperationException"
    · have hf := (if_pos c_37).symm.trans hf
      subst c_37
      refine rb_callI (As := [.ref o]) (rest := [.ref n]) C mi_X12_init si_X1_297 (ct_Y12_init Ev h_5 (n + 1) n o (.inr ("java/lang/UnsupportedOperationException", q_18)) _ _ _ e_11) rfl rfl (Nat.le_of_ble_eq_true rfl) ⟨Nat.le_of_ble_eq_true rfl, Nat.le_of_ble_eq_true rfl, Bd.c1 hb ea_12, Bd.s1 hb eb_13⟩ dX1_greatestByMaking_5 (rb_xY (E := "java/lang/UnsupportedOperationException") (rb_wX (kc := ((0 + 1) + k_9)) (ks := ((0 + 7) + s_10)) rfl rfl ?_)) rb_kY
      have hb := Bd.ade hb ea_12 eb_13
      cases hf
      exact rb_out C (fun _ z => absurd z List.not_mem_nil) hb.e.2.1 hb.e.2.2 ⟨rfl, rfl, hb.e.1⟩
    have hf := (if_neg c_37).symm.trans hf
    cases hf
def f_Y1_values (Ev : rb_E) (h : AH) (n : Nat) (o : Nat) : Option ((Int32 ⊕ (String × Nat)) × AH × Nat × Nat) := (ad 1 7 (rb_lt (va_up h n (some (.inr (10, [.null, .null, .null, .null, .int 0, .long 0, .null])))) fun h_5 => ((f_Y12_init Ev h_5 (n + 1) n o).bind fun (r_7, h_8, k_9, s_10) => (ad k_9 s_10 (match r_7 with | .inl v_16 => ((hp_k Ev h_8 n 10).bind fun u_19 => ((f_X12_values Ev h_8 ((n + 1) + k_9) n).bind fun (r_22, h_23, k_24, s_25) => (ad k_24 s_25 ((hp_len Ev h_23 r_22 0).bind fun v_31 => (some (.inl (nI v_31), h_23, 0, 0)))))) | .inr (E_17, q_18) => (if E_17 = "java/lang/UnsupportedOperationException" then (some (.inr ("java/lang/UnsupportedOperationException", q_18), h_8, 0, 0)) else none))))))
abbrev rm_Y1_values (k s : Nat) : Room := { frames := 76, cells := k, slots := s, locals := 2890 }
set_option maxHeartbeats 4000000 in
theorem ct_Y1_values (Ev : rb_E) (h : AH) (n : Nat) (o : Nat) (r : Int32 ⊕ (String × Nat)) (h' : AH) (k s : Nat) (hf : f_Y1_values Ev h n o = some (r, h', k, s)) : Ct Ev yX1_values (ws_ yX1_values cX1_values 1 (some .int)) (rm_Y1_values k s) [.ref o] h n (pX (rMap (fun v => some (.int v)) r) h' (n + k)) := by
  rw [f_Y1_values] at hf
  refine Ct.of rfl (Nat.le_of_ble_eq_true rfl) fun X C hnm => ?_
  have C : Cx Ev X RX1 cX1_values 1 (some .int) [] := C
  show Wa Ev X (rm_Y1_values k s) 1 h n 0 0 (rb_MQ Ev X (rm_Y1_values k s) (pX (rMap (fun v => some (.int v)) r) h' (n + k))) 0 [(0, .ref o)] []
  have hb : Bd (n + k) k s n 0 0 k s := ⟨rfl, Nat.le_of_eq (Nat.zero_add _), Nat.le_of_eq (Nat.zero_add _)⟩
  obtain ⟨a_3, b_4, hf, ea_1, eb_2⟩ := ad_at hf
  refine rb_hnew C ck_X12 q1766 q1767 q108 [.null, .null, .null, .null, .int 0, .long 0, .null] rfl (Bd.c1 hb ea_1) (Bd.s1 hb eb_2) dX1_values_0 ?_
  have hb := Bd.ade hb ea_1 eb_2
  obtain ⟨h_5, e_h_5⟩ : ∃ z, z = (va_up h n (some (.inr (10, [.null, .null, .null, .null, .int 0, .long 0, .null])))) := ⟨_, rfl⟩
  rw [← e_h_5]
  have hf := rb_let hf e_h_5
  refine rb_dup C dX1_values_3 rfl ?_
  refine rb_aload_n C dX1_values_4 rfl 0 rfl ?_
  obtain ⟨⟨r_7, h_8, k_9, s_10⟩, e_11, hf⟩ := rb_bd hf
  obtain ⟨a_14, b_15, hf, ea_12, eb_13⟩ := ad_at hf
  rcases r_7 with v_16 | ⟨E_17, q_18⟩
  · dsimp only at hf
    refine rb_callI (As := [.ref o]) (rest := [.ref n]) C mi_X12_init si_X1_297 (ct_Y12_init Ev h_5 (n + 1) n o (.inl v_16) _ _ _ e_11) rfl rfl (Nat.le_of_ble_eq_true rfl) ⟨Nat.le_of_ble_eq_true rfl, Nat.le_of_ble_eq_true rfl, Bd.c1 hb ea_12, Bd.s1 hb eb_13⟩ dX1_values_5 rb_xX (rb_kX (r := none) (rb_w (kc := ((0 + 1) + k_9)) (ks := ((0 + 7) + s_10)) rfl rfl ?_))
    have hb := Bd.ade hb ea_12 eb_13
    obtain ⟨u_19, e_20, hf⟩ := rb_bd hf
    obtain ⟨⟨r_22, h_23, k_24, s_25⟩, e_26, hf⟩ := rb_bd hf
    obtain ⟨a_29, b_30, hf, ea_27, eb_28⟩ := ad_at hf
    refine rb_callV (As := []) (rest := []) C mi_X12_values sv_X1_312 (hp_k_isC C.pf e_20 ck_X12) (ct_X12_values Ev h_8 ((n + 1) + k_9) n r_22 _ _ _ e_26) rfl rfl (Nat.le_of_ble_eq_true rfl) ⟨Nat.le_of_ble_eq_true rfl, Nat.le_of_ble_eq_true rfl, Bd.c1 hb ea_27, Bd.s1 hb eb_28⟩ dX1_values_8 rb_xX (rb_kX (rb_w (kc := (((0 + 1) + k_9) + k_24)) (ks := (((0 + 7) + s_10) + s_25)) rfl rfl ?_))
    have hb := Bd.ade hb ea_27 eb_28
    obtain ⟨v_31, e_32, hf⟩ := rb_bd hf
    refine rb_hlen (t := 0) C rfl e_32 dX1_values_11 ?_
    cases hf
    exact rb_iret C rfl rfl hb.e.2.1 hb.e.2.2 dX1_values_12 ⟨rfl, rfl, hb.e.1⟩
  · dsimp only at hf
    by_cases c_33 : E_17 = "java/lang/UnsupportedOperationException"
    · have hf := (if_pos c_33).symm.trans hf
      subst c_33
      refine rb_callI (As := [.ref o]) (rest := [.ref n]) C mi_X12_init si_X1_297 (ct_Y12_init Ev h_5 (n + 1) n o (.inr ("java/lang/UnsupportedOperationException", q_18)) _ _ _ e_11) rfl rfl (Nat.le_of_ble_eq_true rfl) ⟨Nat.le_of_ble_eq_true rfl, Nat.le_of_ble_eq_true rfl, Bd.c1 hb ea_12, Bd.s1 hb eb_13⟩ dX1_values_5 (rb_xY (E := "java/lang/UnsupportedOperationException") (rb_wX (kc := ((0 + 1) + k_9)) (ks := ((0 + 7) + s_10)) rfl rfl ?_)) rb_kY
      have hb := Bd.ade hb ea_12 eb_13
      cases hf
      exact rb_out C (fun _ z => absurd z List.not_mem_nil) hb.e.2.1 hb.e.2.2 ⟨rfl, rfl, hb.e.1⟩
    have hf := (if_neg c_33).symm.trans hf
    cases hf
