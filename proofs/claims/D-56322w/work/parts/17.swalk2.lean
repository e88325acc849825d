set_option maxRecDepth 100000
set_option linter.unusedVariables false
def f_J0_getBytes (Ev : rb_E) (h : AH) (n : Nat) (o : Nat) (x1 : Nat) (x2 : Int32) (x3 : Int32) : Option (Unit × AH × Nat × Nat) := ((hp_i Ev h o 13 1).bind fun v_1 => (if v_1 = x3 then ((hp_p Ev h o 13 0).bind fun v_18 => ((hp_i Ev h o 13 3).bind fun v_20 => ((hp_cpi Ev h 1 .byte v_18 0 x1 (x2 <<< (x3 &&& 31)) (v_20 <<< (x3 &&& 31))).bind fun h_22 => (some ((), h_22, 0, 0))))) else ((hp_p Ev h o 13 0).bind fun v_4 => ((hp_i Ev h o 13 3).bind fun v_6 => ((f_J11_inflate Ev h n v_4 0 x1 x2 v_6).bind fun (r_9, h_10, k_11, s_12) => (ad k_11 s_12 (some ((), h_10, 0, 0))))))))
abbrev rm_J0_getBytes (k s : Nat) : Room := { frames := 5, cells := k, slots := s, locals := 116 }
set_option maxHeartbeats 4000000 in
theorem ct_J0_getBytes (Ev : rb_E) (h : AH) (n : Nat) (o : Nat) (x1 : Nat) (x2 : Int32) (x3 : Int32) (r : Unit) (h' : AH) (k s : Nat) (hf : f_J0_getBytes Ev h n o x1 x2 x3 = some (r, h', k, s)) : Ct Ev yJ0_getBytes (ws_ yJ0_getBytes cJ0_getBytes 4 none) (rm_J0_getBytes k s) [.ref o, .ref x1, .int x2, .int x3] h n (pX (.inl (none)) h' (n + k)) := by
  rw [f_J0_getBytes] at hf
  refine Ct.of rfl (Nat.le_of_ble_eq_true rfl) fun X C hnm => ?_
  have C : Cx Ev X RJ0 cJ0_getBytes 4 none [] := C
  show Wa Ev X (rm_J0_getBytes k s) 4 h n 0 0 (rb_MQ Ev X (rm_J0_getBytes k s) (pX (.inl (none)) h' (n + k))) 0 [(0, .ref o), (1, .ref x1), (2, .int x2), (3, .int x3)] []
  have hb : Bd (n + k) k s n 0 0 k s := ⟨rfl, Nat.le_of_eq (Nat.zero_add _), Nat.le_of_eq (Nat.zero_add _)⟩
  refine rb_aload_n C dJ0_getBytes_0 rfl 0 rfl ?_
  obtain ⟨v_1, e_2, hf⟩ := rb_bd hf
  refine rb_hI C fl_J0_22_J1 e_2 dJ0_getBytes_1 ?_
  refine rb_iload_n C dJ0_getBytes_4 rfl 3 rfl ?_
  refine rb_icmp_ne (tgt := 29) C dJ0_getBytes_5 (by decide) (fun c_3 => ?_) (fun c_3 => ?_)
  · have hf := (if_neg c_3).symm.trans hf
    refine rb_aload_n C dJ0_getBytes_29 rfl 0 rfl ?_
    obtain ⟨v_4, e_5, hf⟩ := rb_bd hf
    refine rb_hP C fl_J0_15_J1 e_5 dJ0_getBytes_30 ?_
    refine rb_iconst (v := 0) C dJ0_getBytes_33 rfl ?_
    refine rb_aload_n C dJ0_getBytes_34 rfl 1 rfl ?_
    refine rb_iload_n C dJ0_getBytes_35 rfl 2 rfl ?_
    refine rb_aload_n C dJ0_getBytes_36 rfl 0 rfl ?_
    obtain ⟨v_6, e_7, hf⟩ := rb_bd hf
    refine rb_hI C fl_J0_79_J1 e_7 dJ0_getBytes_37 ?_
    obtain ⟨⟨r_9, h_10, k_11, s_12⟩, e_13, hf⟩ := rb_bd hf
    obtain ⟨a_16, b_17, hf, ea_14, eb_15⟩ := ad_at hf
    refine rb_callS (As := [.ref v_4, .int 0, .ref x1, .int x2, .int v_6]) (rest := []) C mi_J11_inflate ss_J0_125 (ct_J11_inflate Ev h n v_4 0 x1 x2 v_6 r_9 _ _ _ e_13) rfl rfl (Nat.le_of_ble_eq_true rfl) ⟨Nat.le_of_ble_eq_true rfl, Nat.le_of_ble_eq_true rfl, Bd.c1 hb ea_14, Bd.s1 hb eb_15⟩ dJ0_getBytes_40 rb_xX (rb_kX (rb_w (kc := (0 + k_11)) (ks := (0 + s_12)) rfl rfl ?_))
    have hb := Bd.ade hb ea_14 eb_15
    cases hf
    exact rb_vret C rfl hb.e.2.1 hb.e.2.2 dJ0_getBytes_43 ⟨rfl, rfl, hb.e.1⟩
  · have hf := (if_pos c_3).symm.trans hf
    refine rb_aload_n C dJ0_getBytes_8 rfl 0 rfl ?_
    obtain ⟨v_18, e_19, hf⟩ := rb_bd hf
    refine rb_hP C fl_J0_15_J1 e_19 dJ0_getBytes_9 ?_
    refine rb_iconst (v := 0) C dJ0_getBytes_12 rfl ?_
    refine rb_aload_n C dJ0_getBytes_13 rfl 1 rfl ?_
    refine rb_iload_n C dJ0_getBytes_14 rfl 2 rfl ?_
    refine rb_iload_n C dJ0_getBytes_15 rfl 3 rfl ?_
    refine rb_ishl C dJ0_getBytes_16 ?_
    refine rb_aload_n C dJ0_getBytes_17 rfl 0 rfl ?_
    obtain ⟨v_20, e_21, hf⟩ := rb_bd hf
    refine rb_hI C fl_J0_79_J1 e_21 dJ0_getBytes_18 ?_
    refine rb_iload_n C dJ0_getBytes_21 rfl 3 rfl ?_
    refine rb_ishl C dJ0_getBytes_22 ?_
    obtain ⟨h_22, e_23, hf⟩ := rb_bd hf
    refine rb_hcpi C 1 q426 q310 q309 q83 rfl rfl e_23 (Nat.le_of_ble_eq_true rfl) (Nat.le_of_ble_eq_true rfl) dJ0_getBytes_23 ?_
    refine rb_goto (tgt := 43) C dJ0_getBytes_26 (by decide) ?_
    cases hf
    exact rb_vret C rfl hb.e.2.1 hb.e.2.2 dJ0_getBytes_43 ⟨rfl, rfl, hb.e.1⟩
def f_J0_append_3 (Ev : rb_E) (h : AH) (n : Nat) (o : Nat) (x1 : Nat) : Option (Nat × AH × Nat × Nat) := ((hp_k Ev h x1 13).bind fun u_1 => ((f_J1_length Ev h x1).bind fun v_4 => ((hp_i Ev h o 13 3).bind fun v_6 => ((hp_k Ev h o 13).bind fun u_8 => ((f_J0_ensureCapacityInternal Ev h n o (v_6 + v_4)).bind fun (r_11, h_12, k_13, s_14) => (ad k_13 s_14 ((hp_k Ev h_12 o 13).bind fun u_20 => ((f_J0_inflateIfNeededFor_2 Ev h_12 (n + k_13) o x1).bind fun (r_23, h_24, k_25, s_26) => (ad k_25 s_26 ((hp_p Ev h_24 o 13 0).bind fun v_32 => ((hp_i Ev h_24 o 13 3).bind fun v_34 => ((hp_i Ev h_24 o 13 1).bind fun v_36 => ((hp_k Ev h_24 x1 13).bind fun u_38 => ((f_J0_getBytes Ev h_24 ((n + k_13) + k_25) x1 v_32 v_34 v_36).bind fun (r_41, h_42, k_43, s_44) => (ad k_43 s_44 ((hp_i Ev h_42 o 13 3).bind fun v_50 => ((hp_put h_42 o 13 3 (.int (v_50 + v_4))).bind fun h_52 => ((hp_i Ev h_52 o 13 2).bind fun v_54 => ((hp_i Ev h_52 x1 13 2).bind fun v_56 => (if narrow .boolean (.int (v_54 ||| v_56)) = .int (v_54 ||| v_56) ∧ fits .boolean (.int (v_54 ||| v_56)) = true then ((hp_put h_52 o 13 2 (.int (v_54 ||| v_56))).bind fun h_59 => (some (o, h_59, 0, 0))) else none))))))))))))))))))))
abbrev rm_J0_append_3 (k s : Nat) : Room := { frames := 7, cells := k, slots := s, locals := 158 }
set_option maxHeartbeats 4000000 in
theorem ct_J0_append_3 (Ev : rb_E) (h : AH) (n : Nat) (o : Nat) (x1 : Nat) (r : Nat) (h' : AH) (k s : Nat) (hf : f_J0_append_3 Ev h n o x1 = some (r, h', k, s)) : Ct Ev yJ0_append_3 (ws_ yJ0_append_3 cJ0_append_3 3 (some (.object "java/lang/AbstractStringBuilder"))) (rm_J0_append_3 k s) [.ref o, .ref x1] h n (pX (.inl (some (.ref r))) h' (n + k)) := by
  rw [f_J0_append_3] at hf
  refine Ct.of rfl (Nat.le_of_ble_eq_true rfl) fun X C hnm => ?_
  have C : Cx Ev X RJ0 cJ0_append_3 3 (some (.object "java/lang/AbstractStringBuilder")) [] := C
  show Wa Ev X (rm_J0_append_3 k s) 3 h n 0 0 (rb_MQ Ev X (rm_J0_append_3 k s) (pX (.inl (some (.ref r))) h' (n + k))) 0 [(0, .ref o), (1, .ref x1)] []
  have hb : Bd (n + k) k s n 0 0 k s := ⟨rfl, Nat.le_of_eq (Nat.zero_add _), Nat.le_of_eq (Nat.zero_add _)⟩
  refine rb_aload_n C dJ0_append_3_0 rfl 1 rfl ?_
  refine rb_ifnonnull (tgt := 9) C dJ0_append_3_1 (by decide) ?_
  refine rb_aload_n C dJ0_append_3_9 rfl 1 rfl ?_
  obtain ⟨u_1, e_2, hf⟩ := rb_bd hf
  obtain ⟨v_4, e_5, hf⟩ := rb_bd hf
  refine rb_callVO (As := []) (rest := []) C mi_J1_length so_J0_160_J1_length (hp_k_isC C.pf e_2 ck_J1) (ct_J1_length Ev h n x1 _ e_5) rfl rfl (Nat.le_of_ble_eq_true rfl) ⟨Nat.le_of_ble_eq_true rfl, Nat.le_of_ble_eq_true rfl, hb.c0, hb.s0⟩ dJ0_append_3_10 rb_xXi (rb_kXi fun hn_3 => (rb_w (kc := 0) (ks := 0) rfl rfl ?_))
  refine rb_istore_n (lv' := [(2, .int v_4), (0, .ref o), (1, .ref x1)]) C dJ0_append_3_13 rfl (by decide) rfl ?_
  refine rb_aload_n C dJ0_append_3_14 rfl 1 rfl ?_
  refine rb_aload_n C dJ0_append_3_15 rfl 1 rfl ?_
  obtain ⟨v_6, e_7, hf⟩ := rb_bd hf
  refine rb_hI C fl_J0_79_J1 e_7 dJ0_append_3_16 ?_
  refine rb_iload_n C dJ0_append_3_19 rfl 0 rfl ?_
  refine rb_iadd C dJ0_append_3_20 ?_
  obtain ⟨u_8, e_9, hf⟩ := rb_bd hf
  obtain ⟨⟨r_11, h_12, k_13, s_14⟩, e_15, hf⟩ := rb_bd hf
  obtain ⟨a_18, b_19, hf, ea_16, eb_17⟩ := ad_at hf
  refine rb_callVP (As := [.int (v_6 + v_4)]) (rest := []) C mi_J0_ensureCapacityInternal sp_J0_100 (hp_k_isC C.pf e_9 ck_J1) (ct_J0_ensureCapacityInternal Ev h n o (v_6 + v_4) r_11 _ _ _ e_15) rfl rfl (Nat.le_of_ble_eq_true rfl) ⟨Nat.le_of_ble_eq_true rfl, Nat.le_of_ble_eq_true rfl, Bd.c1 hb ea_16, Bd.s1 hb eb_17⟩ dJ0_append_3_21 rb_xX (rb_kX (rb_w (kc := (0 + k_13)) (ks := (0 + s_14)) rfl rfl ?_))
  have hb := Bd.ade hb ea_16 eb_17
  refine rb_aload_n C dJ0_append_3_24 rfl 1 rfl ?_
  refine rb_aload_n C dJ0_append_3_25 rfl 2 rfl ?_
  obtain ⟨u_20, e_21, hf⟩ := rb_bd hf
  obtain ⟨⟨r_23, h_24, k_25, s_26⟩, e_27, hf⟩ := rb_bd hf
  obtain ⟨a_30, b_31, hf, ea_28, eb_29⟩ := ad_at hf
  refine rb_callVP (As := [.ref x1]) (rest := []) C mi_J0_inflateIfNeededFor_2 sp_J0_215 (hp_k_isC C.pf e_21 ck_J1) (ct_J0_inflateIfNeededFor_2 Ev h_12 (n + k_13) o x1 r_23 _ _ _ e_27) rfl rfl (Nat.le_of_ble_eq_true rfl) ⟨Nat.le_of_ble_eq_true rfl, Nat.le_of_ble_eq_true rfl, Bd.c1 hb ea_28, Bd.s1 hb eb_29⟩ dJ0_append_3_26 rb_xX (rb_kX (rb_w (kc := ((0 + k_13) + k_25)) (ks := ((0 + s_14) + s_26)) rfl rfl ?_))
  have hb := Bd.ade hb ea_28 eb_29
  refine rb_aload_n C dJ0_append_3_29 rfl 2 rfl ?_
  refine rb_aload_n C dJ0_append_3_30 rfl 1 rfl ?_
  obtain ⟨v_32, e_33, hf⟩ := rb_bd hf
  refine rb_hP C fl_J0_15_J1 e_33 dJ0_append_3_31 ?_
  refine rb_aload_n C dJ0_append_3_34 rfl 1 rfl ?_
  obtain ⟨v_34, e_35, hf⟩ := rb_bd hf
  refine rb_hI C fl_J0_79_J1 e_35 dJ0_append_3_35 ?_
  refine rb_aload_n C dJ0_append_3_38 rfl 1 rfl ?_
  obtain ⟨v_36, e_37, hf⟩ := rb_bd hf
  refine rb_hI C fl_J0_22_J1 e_37 dJ0_append_3_39 ?_
  obtain ⟨u_38, e_39, hf⟩ := rb_bd hf
  obtain ⟨⟨r_41, h_42, k_43, s_44⟩, e_45, hf⟩ := rb_bd hf
  obtain ⟨a_48, b_49, hf, ea_46, eb_47⟩ := ad_at hf
  refine rb_callU (As := [.ref v_32, .int v_34, .int v_36]) (rest := []) C mi_J0_getBytes su_J0_219_J1 (hp_k_isC C.pf e_39 ck_J1) (ct_J0_getBytes Ev h_24 ((n + k_13) + k_25) x1 v_32 v_34 v_36 r_41 _ _ _ e_45) rfl rfl (Nat.le_of_ble_eq_true rfl) ⟨Nat.le_of_ble_eq_true rfl, Nat.le_of_ble_eq_true rfl, Bd.c1 hb ea_46, Bd.s1 hb eb_47⟩ dJ0_append_3_42 rb_xX (rb_kX (rb_w (kc := (((0 + k_13) + k_25) + k_43)) (ks := (((0 + s_14) + s_26) + s_44)) rfl rfl ?_))
  have hb := Bd.ade hb ea_46 eb_47
  refine rb_aload_n C dJ0_append_3_45 rfl 1 rfl ?_
  refine rb_dup C dJ0_append_3_46 rfl ?_
  obtain ⟨v_50, e_51, hf⟩ := rb_bd hf
  refine rb_hI C fl_J0_79_J1 e_51 dJ0_append_3_47 ?_
  refine rb_iload_n C dJ0_append_3_50 rfl 0 rfl ?_
  refine rb_iadd C dJ0_append_3_51 ?_
  obtain ⟨h_52, e_53, hf⟩ := rb_bd hf
  refine rb_hput C fw_J0_79_J1 e_53 rfl rfl dJ0_append_3_52 ?_
  refine rb_aload_n C dJ0_append_3_55 rfl 1 rfl ?_
  refine rb_dup C dJ0_append_3_56 rfl ?_
  obtain ⟨v_54, e_55, hf⟩ := rb_bd hf
  refine rb_hI C fl_J0_73_J1 e_55 dJ0_append_3_57 ?_
  refine rb_aload_n C dJ0_append_3_60 rfl 2 rfl ?_
  obtain ⟨v_56, e_57, hf⟩ := rb_bd hf
  refine rb_hI C fl_J0_73_J1 e_57 dJ0_append_3_61 ?_
  refine rb_ior C dJ0_append_3_64 ?_
  by_cases c_g_58 : narrow .boolean (.int (v_54 ||| v_56)) = .int (v_54 ||| v_56) ∧ fits .boolean (.int (v_54 ||| v_56)) = true
  rotate_left
  · exact absurd ((if_neg c_g_58).symm.trans hf) (fun z => by cases z)
  have hf := (if_pos c_g_58).symm.trans hf
  obtain ⟨h_59, e_60, hf⟩ := rb_bd hf
  refine rb_hput C fw_J0_73_J1 e_60 c_g_58.1 c_g_58.2 dJ0_append_3_65 ?_
  refine rb_aload_n C dJ0_append_3_68 rfl 1 rfl ?_
  cases hf
  exact rb_aret C rfl (Or.inl ⟨_, rfl⟩) (Or.inr ⟨_, rfl⟩) hb.e.2.1 hb.e.2.2 dJ0_append_3_69 ⟨rfl, rfl, hb.e.1⟩
def f_J0_inflateIfNeededFor (Ev : rb_E) (h : AH) (n : Nat) (o : Nat) (x1 : Nat) : Option (Unit × AH × Nat × Nat) := ((hp_i Ev h o 13 1).bind fun v_1 => ((hp_k Ev h x1 14).bind fun u_3 => ((f_J2_coder Ev h x1).bind fun v_6 => (if v_1 = v_6 then (some ((), h, 0, 0)) else ((hp_k Ev h o 13).bind fun u_9 => ((f_J0_inflate Ev h n o).bind fun (r_12, h_13, k_14, s_15) => (ad k_14 s_15 (some ((), h_13, 0, 0)))))))))
abbrev rm_J0_inflateIfNeededFor (k s : Nat) : Room := { frames := 6, cells := k, slots := s, locals := 137 }
set_option maxHeartbeats 4000000 in
theorem ct_J0_inflateIfNeededFor (Ev : rb_E) (h : AH) (n : Nat) (o : Nat) (x1 : Nat) (r : Unit) (h' : AH) (k s : Nat) (hf : f_J0_inflateIfNeededFor Ev h n o x1 = some (r, h', k, s)) : Ct Ev yJ0_inflateIfNeededFor (ws_ yJ0_inflateIfNeededFor cJ0_inflateIfNeededFor 2 none) (rm_J0_inflateIfNeededFor k s) [.ref o, .ref x1] h n (pX (.inl (none)) h' (n + k)) := by
  rw [f_J0_inflateIfNeededFor] at hf
  refine Ct.of rfl (Nat.le_of_ble_eq_true rfl) fun X C hnm => ?_
  have C : Cx Ev X RJ0 cJ0_inflateIfNeededFor 2 none [] := C
  show Wa Ev X (rm_J0_inflateIfNeededFor k s) 2 h n 0 0 (rb_MQ Ev X (rm_J0_inflateIfNeededFor k s) (pX (.inl (none)) h' (n + k))) 0 [(0, .ref o), (1, .ref x1)] []
  have hb : Bd (n + k) k s n 0 0 k s := ⟨rfl, Nat.le_of_eq (Nat.zero_add _), Nat.le_of_eq (Nat.zero_add _)⟩
  refine rb_gets (v := .int 1) C q140 q141 (C.pf.2.2.1.1) dJ0_inflateIfNeededFor_0 ?_
  refine rb_if_eq (tgt := 21) C dJ0_inflateIfNeededFor_3 (by decide) (fun c => absurd c (by decide)) (fun _ => ?_)
  refine rb_aload_n C dJ0_inflateIfNeededFor_6 rfl 0 rfl ?_
  obtain ⟨v_1, e_2, hf⟩ := rb_bd hf
  refine rb_hI C fl_J0_22_J1 e_2 dJ0_inflateIfNeededFor_7 ?_
  refine rb_aload_n C dJ0_inflateIfNeededFor_10 rfl 1 rfl ?_
  obtain ⟨u_3, e_4, hf⟩ := rb_bd hf
  obtain ⟨v_6, e_7, hf⟩ := rb_bd hf
  refine rb_callV (As := []) (rest := [.int v_1]) C mi_J2_coder sv_J0_40 (hp_k_isC C.pf e_4 ck_J2) (ct_J2_coder Ev h n x1 _ e_7) rfl rfl (Nat.le_of_ble_eq_true rfl) ⟨Nat.le_of_ble_eq_true rfl, Nat.le_of_ble_eq_true rfl, hb.c0, hb.s0⟩ dJ0_inflateIfNeededFor_11 rb_xXi (rb_kXi fun hn_5 => (rb_w (kc := 0) (ks := 0) rfl rfl ?_))
  refine rb_icmp_eq (tgt := 21) C dJ0_inflateIfNeededFor_14 (by decide) (fun c_8 => ?_) (fun c_8 => ?_)
  · have hf := (if_pos c_8).symm.trans hf
    cases hf
    exact rb_vret C rfl hb.e.2.1 hb.e.2.2 dJ0_inflateIfNeededFor_21 ⟨rfl, rfl, hb.e.1⟩
  · have hf := (if_neg c_8).symm.trans hf
    refine rb_aload_n C dJ0_inflateIfNeededFor_17 rfl 0 rfl ?_
    obtain ⟨u_9, e_10, hf⟩ := rb_bd hf
    obtain ⟨⟨r_12, h_13, k_14, s_15⟩, e_16, hf⟩ := rb_bd hf
    obtain ⟨a_19, b_20, hf, ea_17, eb_18⟩ := ad_at hf
    refine rb_callVP (As := []) (rest := []) C mi_J0_inflate sp_J0_195 (hp_k_isC C.pf e_10 ck_J1) (ct_J0_inflate Ev h n o r_12 _ _ _ e_16) rfl rfl (Nat.le_of_ble_eq_true rfl) ⟨Nat.le_of_ble_eq_true rfl, Nat.le_of_ble_eq_true rfl, Bd.c1 hb ea_17, Bd.s1 hb eb_18⟩ dJ0_inflateIfNeededFor_18 rb_xX (rb_kX (rb_w (kc := (0 + k_14)) (ks := (0 + s_15)) rfl rfl ?_))
    have hb := Bd.ade hb ea_17 eb_18
    cases hf
    exact rb_vret C rfl hb.e.2.1 hb.e.2.2 dJ0_inflateIfNeededFor_21 ⟨rfl, rfl, hb.e.1⟩
def f_J2_getBytes (Ev : rb_E) (h : AH) (n : Nat) (o : Nat) (x1 : Nat) (x2 : Int32) (x3 : Int32) : Option (Unit × AH × Nat × Nat) := ((hp_k Ev h o 14).bind fun u_1 => ((f_J2_coder Ev h o).bind fun v_4 => (if v_4 = x3 then ((hp_p Ev h o 14 0).bind fun v_23 => ((hp_p Ev h o 14 0).bind fun v_25 => ((hp_len Ev h v_25 1).bind fun v_27 => ((hp_cpi Ev h 1 .byte v_23 0 x1 (x2 <<< (x3 &&& 31)) (nI v_27)).bind fun h_29 => (some ((), h_29, 0, 0)))))) else ((hp_p Ev h o 14 0).bind fun v_7 => ((hp_p Ev h o 14 0).bind fun v_9 => ((hp_len Ev h v_9 1).bind fun v_11 => ((f_J11_inflate Ev h n v_7 0 x1 x2 (nI v_11)).bind fun (r_14, h_15, k_16, s_17) => (ad k_16 s_17 (some ((), h_15, 0, 0))))))))))
abbrev rm_J2_getBytes (k s : Nat) : Room := { frames := 5, cells := k, slots := s, locals := 116 }
set_option maxHeartbeats 4000000 in
theorem ct_J2_getBytes (Ev : rb_E) (h : AH) (n : Nat) (o : Nat) (x1 : Nat) (x2 : Int32) (x3 : Int32) (r : Unit) (h' : AH) (k s : Nat) (hf : f_J2_getBytes Ev h n o x1 x2 x3 = some (r, h', k, s)) : Ct Ev yJ2_getBytes (ws_ yJ2_getBytes cJ2_getBytes 4 none) (rm_J2_getBytes k s) [.ref o, .ref x1, .int x2, .int x3] h n (pX (.inl (none)) h' (n + k)) := by
  rw [f_J2_getBytes] at hf
  refine Ct.of rfl (Nat.le_of_ble_eq_true rfl) fun X C hnm => ?_
  have C : Cx Ev X RJ2 cJ2_getBytes 4 none [] := C
  show Wa Ev X (rm_J2_getBytes k s) 4 h n 0 0 (rb_MQ Ev X (rm_J2_getBytes k s) (pX (.inl (none)) h' (n + k))) 0 [(0, .ref o), (1, .ref x1), (2, .int x2), (3, .int x3)] []
  have hb : Bd (n + k) k s n 0 0 k s := ⟨rfl, Nat.le_of_eq (Nat.zero_add _), Nat.le_of_eq (Nat.zero_add _)⟩
  refine rb_aload_n C dJ2_getBytes_0 rfl 0 rfl ?_
  obtain ⟨u_1, e_2, hf⟩ := rb_bd hf
  obtain ⟨v_4, e_5, hf⟩ := rb_bd hf
  refine rb_callV (As := []) (rest := []) C mi_J2_coder sv_J2_335 (hp_k_isC C.pf e_2 ck_J2) (ct_J2_coder Ev h n o _ e_5) rfl rfl (Nat.le_of_ble_eq_true rfl) ⟨Nat.le_of_ble_eq_true rfl, Nat.le_of_ble_eq_true rfl, hb.c0, hb.s0⟩ dJ2_getBytes_1 rb_xXi (rb_kXi fun hn_3 => (rb_w (kc := 0) (ks := 0) rfl rfl ?_))
  refine rb_iload_n C dJ2_getBytes_4 rfl 3 rfl ?_
  refine rb_icmp_ne (tgt := 28) C dJ2_getBytes_5 (by decide) (fun c_6 => ?_) (fun c_6 => ?_)
  · have hf := (if_neg c_6).symm.trans hf
    refine rb_aload_n C dJ2_getBytes_28 rfl 0 rfl ?_
    obtain ⟨v_7, e_8, hf⟩ := rb_bd hf
    refine rb_hP C fl_J2_9_J2 e_8 dJ2_getBytes_29 ?_
    refine rb_iconst (v := 0) C dJ2_getBytes_32 rfl ?_
    refine rb_aload_n C dJ2_getBytes_33 rfl 1 rfl ?_
    refine rb_iload_n C dJ2_getBytes_34 rfl 2 rfl ?_
    refine rb_aload_n C dJ2_getBytes_35 rfl 0 rfl ?_
    obtain ⟨v_9, e_10, hf⟩ := rb_bd hf
    refine rb_hP C fl_J2_9_J2 e_10 dJ2_getBytes_36 ?_
    obtain ⟨v_11, e_12, hf⟩ := rb_bd hf
    refine rb_hlen (t := 1) C rfl e_12 dJ2_getBytes_39 ?_
    obtain ⟨⟨r_14, h_15, k_16, s_17⟩, e_18, hf⟩ := rb_bd hf
    obtain ⟨a_21, b_22, hf, ea_19, eb_20⟩ := ad_at hf
    refine rb_callS (As := [.ref v_7, .int 0, .ref x1, .int x2, .int (nI v_11)]) (rest := []) C mi_J11_inflate ss_J2_106 (ct_J11_inflate Ev h n v_7 0 x1 x2 (nI v_11) r_14 _ _ _ e_18) rfl rfl (Nat.le_of_ble_eq_true rfl) ⟨Nat.le_of_ble_eq_true rfl, Nat.le_of_ble_eq_true rfl, Bd.c1 hb ea_19, Bd.s1 hb eb_20⟩ dJ2_getBytes_40 rb_xX (rb_kX (rb_w (kc := (0 + k_16)) (ks := (0 + s_17)) rfl rfl ?_))
    have hb := Bd.ade hb ea_19 eb_20
    cases hf
    exact rb_vret C rfl hb.e.2.1 hb.e.2.2 dJ2_getBytes_43 ⟨rfl, rfl, hb.e.1⟩
  · have hf := (if_pos c_6).symm.trans hf
    refine rb_aload_n C dJ2_getBytes_8 rfl 0 rfl ?_
    obtain ⟨v_23, e_24, hf⟩ := rb_bd hf
    refine rb_hP C fl_J2_9_J2 e_24 dJ2_getBytes_9 ?_
    refine rb_iconst (v := 0) C dJ2_getBytes_12 rfl ?_
    refine rb_aload_n C dJ2_getBytes_13 rfl 1 rfl ?_
    refine rb_iload_n C dJ2_getBytes_14 rfl 2 rfl ?_
    refine rb_iload_n C dJ2_getBytes_15 rfl 3 rfl ?_
    refine rb_ishl C dJ2_getBytes_16 ?_
    refine rb_aload_n C dJ2_getBytes_17 rfl 0 rfl ?_
    obtain ⟨v_25, e_26, hf⟩ := rb_bd hf
    refine rb_hP C fl_J2_9_J2 e_26 dJ2_getBytes_18 ?_
    obtain ⟨v_27, e_28, hf⟩ := rb_bd hf
    refine rb_hlen (t := 1) C rfl e_28 dJ2_getBytes_21 ?_
    obtain ⟨h_29, e_30, hf⟩ := rb_bd hf
    refine rb_hcpi C 1 q396 q310 q309 q83 rfl rfl e_30 (Nat.le_of_ble_eq_true rfl) (Nat.le_of_ble_eq_true rfl) dJ2_getBytes_22 ?_
    refine rb_goto (tgt := 43) C dJ2_getBytes_25 (by decide) ?_
    cases hf
    exact rb_vret C rfl hb.e.2.1 hb.e.2.2 dJ2_getBytes_43 ⟨rfl, rfl, hb.e.1⟩
def f_J0_putStringAt (Ev : rb_E) (h : AH) (n : Nat) (o : Nat) (x1 : Int32) (x2 : Nat) : Option (Unit × AH × Nat × Nat) := ((hp_k Ev h o 13).bind fun u_1 => ((f_J0_inflateIfNeededFor Ev h n o x2).bind fun (r_4, h_5, k_6, s_7) => (ad k_6 s_7 ((hp_p Ev h_5 o 13 0).bind fun v_13 => ((hp_i Ev h_5 o 13 1).bind fun v_15 => ((hp_k Ev h_5 x2 14).bind fun u_17 => ((f_J2_getBytes Ev h_5 (n + k_6) x2 v_13 x1 v_15).bind fun (r_20, h_21, k_22, s_23) => (ad k_22 s_23 (some ((), h_21, 0, 0))))))))))
abbrev rm_J0_putStringAt (k s : Nat) : Room := { frames := 7, cells := k, slots := s, locals := 158 }
set_option maxHeartbeats 4000000 in
theorem ct_J0_putStringAt (Ev : rb_E) (h : AH) (n : Nat) (o : Nat) (x1 : Int32) (x2 : Nat) (r : Unit) (h' : AH) (k s : Nat) (hf : f_J0_putStringAt Ev h n o x1 x2 = some (r, h', k, s)) : Ct Ev yJ0_putStringAt (ws_ yJ0_putStringAt cJ0_putStringAt 3 none) (rm_J0_putStringAt k s) [.ref o, .int x1, .ref x2] h n (pX (.inl (none)) h' (n + k)) := by
  rw [f_J0_putStringAt] at hf
  refine Ct.of rfl (Nat.le_of_ble_eq_true rfl) fun X C hnm => ?_
  have C : Cx Ev X RJ0 cJ0_putStringAt 3 none [] := C
  show Wa Ev X (rm_J0_putStringAt k s) 3 h n 0 0 (rb_MQ Ev X (rm_J0_putStringAt k s) (pX (.inl (none)) h' (n + k))) 0 [(0, .ref o), (1, .int x1), (2, .ref x2)] []
  have hb : Bd (n + k) k s n 0 0 k s := ⟨rfl, Nat.le_of_eq (Nat.zero_add _), Nat.le_of_eq (Nat.zero_add _)⟩
  refine rb_aload_n C dJ0_putStringAt_0 rfl 0 rfl ?_
  refine rb_aload_n C dJ0_putStringAt_1 rfl 2 rfl ?_
  obtain ⟨u_1, e_2, hf⟩ := rb_bd hf
  obtain ⟨⟨r_4, h_5, k_6, s_7⟩, e_8, hf⟩ := rb_bd hf
  obtain ⟨a_11, b_12, hf, ea_9, eb_10⟩ := ad_at hf
  refine rb_callVP (As := [.ref x2]) (rest := []) C mi_J0_inflateIfNeededFor sp_J0_397 (hp_k_isC C.pf e_2 ck_J1) (ct_J0_inflateIfNeededFor Ev h n o x2 r_4 _ _ _ e_8) rfl rfl (Nat.le_of_ble_eq_true rfl) ⟨Nat.le_of_ble_eq_true rfl, Nat.le_of_ble_eq_true rfl, Bd.c1 hb ea_9, Bd.s1 hb eb_10⟩ dJ0_putStringAt_2 rb_xX (rb_kX (rb_w (kc := (0 + k_6)) (ks := (0 + s_7)) rfl rfl ?_))
  have hb := Bd.ade hb ea_9 eb_10
  refine rb_aload_n C dJ0_putStringAt_5 rfl 2 rfl ?_
  refine rb_aload_n C dJ0_putStringAt_6 rfl 0 rfl ?_
  obtain ⟨v_13, e_14, hf⟩ := rb_bd hf
  refine rb_hP C fl_J0_15_J1 e_14 dJ0_putStringAt_7 ?_
  refine rb_iload_n C dJ0_putStringAt_10 rfl 1 rfl ?_
  refine rb_aload_n C dJ0_putStringAt_11 rfl 0 rfl ?_
  obtain ⟨v_15, e_16, hf⟩ := rb_bd hf
  refine rb_hI C fl_J0_22_J1 e_16 dJ0_putStringAt_12 ?_
  obtain ⟨u_17, e_18, hf⟩ := rb_bd hf
  obtain ⟨⟨r_20, h_21, k_22, s_23⟩, e_24, hf⟩ := rb_bd hf
  obtain ⟨a_27, b_28, hf, ea_25, eb_26⟩ := ad_at hf
  refine rb_callV (As := [.ref v_13, .int x1, .int v_15]) (rest := []) C mi_J2_getBytes sv_J0_399 (hp_k_isC C.pf e_18 ck_J2) (ct_J2_getBytes Ev h_5 (n + k_6) x2 v_13 x1 v_15 r_20 _ _ _ e_24) rfl rfl (Nat.le_of_ble_eq_true rfl) ⟨Nat.le_of_ble_eq_true rfl, Nat.le_of_ble_eq_true rfl, Bd.c1 hb ea_25, Bd.s1 hb eb_26⟩ dJ0_putStringAt_15 rb_xX (rb_kX (rb_w (kc := ((0 + k_6) + k_22)) (ks := ((0 + s_7) + s_23)) rfl rfl ?_))
  have hb := Bd.ade hb ea_25 eb_26
  cases hf
  exact rb_vret C rfl hb.e.2.1 hb.e.2.2 dJ0_putStringAt_18 ⟨rfl, rfl, hb.e.1⟩
def f_J0_append_2 (Ev : rb_E) (h : AH) (n : Nat) (o : Nat) (x1 : Nat) : Option (Nat × AH × Nat × Nat) := ((hp_k Ev h x1 14).bind fun u_1 => ((f_J2_length Ev h x1).bind fun v_4 => ((hp_i Ev h o 13 3).bind fun v_6 => ((hp_k Ev h o 13).bind fun u_8 => ((f_J0_ensureCapacityInternal Ev h n o (v_6 + v_4)).bind fun (r_11, h_12, k_13, s_14) => (ad k_13 s_14 ((hp_i Ev h_12 o 13 3).bind fun v_20 => ((hp_k Ev h_12 o 13).bind fun u_22 => ((f_J0_putStringAt Ev h_12 (n + k_13) o v_20 x1).bind fun (r_25, h_26, k_27, s_28) => (ad k_27 s_28 ((hp_i Ev h_26 o 13 3).bind fun v_34 => ((hp_put h_26 o 13 3 (.int (v_34 + v_4))).bind fun h_36 => (some (o, h_36, 0, 0))))))))))))))
abbrev rm_J0_append_2 (k s : Nat) : Room := { frames := 8, cells := k, slots := s, locals := 180 }
set_option maxHeartbeats 4000000 in
theorem ct_J0_append_2 (Ev : rb_E) (h : AH) (n : Nat) (o : Nat) (x1 : Nat) (r : Nat) (h' : AH) (k s : Nat) (hf : f_J0_append_2 Ev h n o x1 = some (r, h', k, s)) : Ct Ev yJ0_append_2 (ws_ yJ0_append_2 cJ0_append_2 3 (some (.object "java/lang/AbstractStringBuilder"))) (rm_J0_append_2 k s) [.ref o, .ref x1] h n (pX (.inl (some (.ref r))) h' (n + k)) := by
  rw [f_J0_append_2] at hf
  refine Ct.of rfl (Nat.le_of_ble_eq_true rfl) fun X C hnm => ?_
  have C : Cx Ev X RJ0 cJ0_append_2 3 (some (.object "java/lang/AbstractStringBuilder")) [] := C
  show Wa Ev X (rm_J0_append_2 k s) 3 h n 0 0 (rb_MQ Ev X (rm_J0_append_2 k s) (pX (.inl (some (.ref r))) h' (n + k))) 0 [(0, .ref o), (1, .ref x1)] []
  have hb : Bd (n + k) k s n 0 0 k s := ⟨rfl, Nat.le_of_eq (Nat.zero_add _), Nat.le_of_eq (Nat.zero_add _)⟩
  refine rb_aload_n C dJ0_append_2_0 rfl 1 rfl ?_
  refine rb_ifnonnull (tgt := 9) C dJ0_append_2_1 (by decide) ?_
  refine rb_aload_n C dJ0_append_2_9 rfl 1 rfl ?_
  obtain ⟨u_1, e_2, hf⟩ := rb_bd hf
  obtain ⟨v_4, e_5, hf⟩ := rb_bd hf
  refine rb_callV (As := []) (rest := []) C mi_J2_length sv_J0_32 (hp_k_isC C.pf e_2 ck_J2) (ct_J2_length Ev h n x1 _ e_5) rfl rfl (Nat.le_of_ble_eq_true rfl) ⟨Nat.le_of_ble_eq_true rfl, Nat.le_of_ble_eq_true rfl, hb.c0, hb.s0⟩ dJ0_append_2_10 rb_xXi (rb_kXi fun hn_3 => (rb_w (kc := 0) (ks := 0) rfl rfl ?_))
  refine rb_istore_n (lv' := [(2, .int v_4), (0, .ref o), (1, .ref x1)]) C dJ0_append_2_13 rfl (by decide) rfl ?_
  refine rb_aload_n C dJ0_append_2_14 rfl 1 rfl ?_
  refine rb_aload_n C dJ0_append_2_15 rfl 1 rfl ?_
  obtain ⟨v_6, e_7, hf⟩ := rb_bd hf
  refine rb_hI C fl_J0_79_J1 e_7 dJ0_append_2_16 ?_
  refine rb_iload_n C dJ0_append_2_19 rfl 0 rfl ?_
  refine rb_iadd C dJ0_append_2_20 ?_
  obtain ⟨u_8, e_9, hf⟩ := rb_bd hf
  obtain ⟨⟨r_11, h_12, k_13, s_14⟩, e_15, hf⟩ := rb_bd hf
  obtain ⟨a_18, b_19, hf, ea_16, eb_17⟩ := ad_at hf
  refine rb_callVP (As := [.int (v_6 + v_4)]) (rest := []) C mi_J0_ensureCapacityInternal sp_J0_100 (hp_k_isC C.pf e_9 ck_J1) (ct_J0_ensureCapacityInternal Ev h n o (v_6 + v_4) r_11 _ _ _ e_15) rfl rfl (Nat.le_of_ble_eq_true rfl) ⟨Nat.le_of_ble_eq_true rfl, Nat.le_of_ble_eq_true rfl, Bd.c1 hb ea_16, Bd.s1 hb eb_17⟩ dJ0_append_2_21 rb_xX (rb_kX (rb_w (kc := (0 + k_13)) (ks := (0 + s_14)) rfl rfl ?_))
  have hb := Bd.ade hb ea_16 eb_17
  refine rb_aload_n C dJ0_append_2_24 rfl 1 rfl ?_
  refine rb_aload_n C dJ0_append_2_25 rfl 1 rfl ?_
  obtain ⟨v_20, e_21, hf⟩ := rb_bd hf
  refine rb_hI C fl_J0_79_J1 e_21 dJ0_append_2_26 ?_
  refine rb_aload_n C dJ0_append_2_29 rfl 2 rfl ?_
  obtain ⟨u_22, e_23, hf⟩ := rb_bd hf
  obtain ⟨⟨r_25, h_26, k_27, s_28⟩, e_29, hf⟩ := rb_bd hf
  obtain ⟨a_32, b_33, hf, ea_30, eb_31⟩ := ad_at hf
  refine rb_callVP (As := [.int v_20, .ref x1]) (rest := []) C mi_J0_putStringAt sp_J0_208 (hp_k_isC C.pf e_23 ck_J1) (ct_J0_putStringAt Ev h_12 (n + k_13) o v_20 x1 r_25 _ _ _ e_29) rfl rfl (Nat.le_of_ble_eq_true rfl) ⟨Nat.le_of_ble_eq_true rfl, Nat.le_of_ble_eq_true rfl, Bd.c1 hb ea_30, Bd.s1 hb eb_31⟩ dJ0_append_2_30 rb_xX (rb_kX (rb_w (kc := ((0 + k_13) + k_27)) (ks := ((0 + s_14) + s_28)) rfl rfl ?_))
  have hb := Bd.ade hb ea_30 eb_31
  refine rb_aload_n C dJ0_append_2_33 rfl 1 rfl ?_
  refine rb_dup C dJ0_append_2_34 rfl ?_
  obtain ⟨v_34, e_35, hf⟩ := rb_bd hf
  refine rb_hI C fl_J0_79_J1 e_35 dJ0_append_2_35 ?_
  refine rb_iload_n C dJ0_append_2_38 rfl 0 rfl ?_
  refine rb_iadd C dJ0_append_2_39 ?_
  obtain ⟨h_36, e_37, hf⟩ := rb_bd hf
  refine rb_hput C fw_J0_79_J1 e_37 rfl rfl dJ0_append_2_40 ?_
  refine rb_aload_n C dJ0_append_2_43 rfl 1 rfl ?_
  cases hf
  exact rb_aret C rfl (Or.inl ⟨_, rfl⟩) (Or.inr ⟨_, rfl⟩) hb.e.2.1 hb.e.2.2 dJ0_append_2_44 ⟨rfl, rfl, hb.e.1⟩
def f_J1_append_3 (Ev : rb_E) (h : AH) (n : Nat) (o : Nat) (x1 : Nat) : Option (Nat × AH × Nat × Nat) := ((hp_k Ev h o 13).bind fun u_1 => ((f_J0_append_2 Ev h n o x1).bind fun (r_4, h_5, k_6, s_7) => (ad k_6 s_7 (some (o, h_5, 0, 0)))))
abbrev rm_J1_append_3 (k s : Nat) : Room := { frames := 9, cells := k, slots := s, locals := 202 }
set_option maxHeartbeats 4000000 in
theorem ct_J1_append_3 (Ev : rb_E) (h : AH) (n : Nat) (o : Nat) (x1 : Nat) (r : Nat) (h' : AH) (k s : Nat) (hf : f_J1_append_3 Ev h n o x1 = some (r, h', k, s)) : Ct Ev yJ1_append_3 (ws_ yJ1_append_3 cJ1_append_3 2 (some (.object "java/lang/StringBuilder"))) (rm_J1_append_3 k s) [.ref o, .ref x1] h n (pX (.inl (some (.ref r))) h' (n + k)) := by
  rw [f_J1_append_3] at hf
  refine Ct.of rfl (Nat.le_of_ble_eq_true rfl) fun X C hnm => ?_
  have C : Cx Ev X RJ1 cJ1_append_3 2 (some (.object "java/lang/StringBuilder")) [] := C
  show Wa Ev X (rm_J1_append_3 k s) 2 h n 0 0 (rb_MQ Ev X (rm_J1_append_3 k s) (pX (.inl (some (.ref r))) h' (n + k))) 0 [(0, .ref o), (1, .ref x1)] []
  have hb : Bd (n + k) k s n 0 0 k s := ⟨rfl, Nat.le_of_eq (Nat.zero_add _), Nat.le_of_eq (Nat.zero_add _)⟩
  refine rb_aload_n C dJ1_append_3_0 rfl 0 rfl ?_
  refine rb_aload_n C dJ1_append_3_1 rfl 1 rfl ?_
  obtain ⟨u_1, e_2, hf⟩ := rb_bd hf
  obtain ⟨⟨r_4, h_5, k_6, s_7⟩, e_8, hf⟩ := rb_bd hf
  obtain ⟨a_11, b_12, hf, ea_9, eb_10⟩ := ad_at hf
  refine rb_callSU (As := [.ref x1]) (rest := []) C mi_J0_append_2 sx_J1_29 ck_J1 (hp_k_isC C.pf e_2 ck_J1) (ct_J0_append_2 Ev h n o x1 r_4 _ _ _ e_8) rfl rfl (Nat.le_of_ble_eq_true rfl) ⟨Nat.le_of_ble_eq_true rfl, Nat.le_of_ble_eq_true rfl, Bd.c1 hb ea_9, Bd.s1 hb eb_10⟩ dJ1_append_3_2 rb_xX (rb_kX (rb_w (kc := (0 + k_6)) (ks := (0 + s_7)) rfl rfl ?_))
  have hb := Bd.ade hb ea_9 eb_10
  refine rb_pop C dJ1_append_3_5 rfl ?_
  refine rb_aload_n C dJ1_append_3_6 rfl 0 rfl ?_
  cases hf
  exact rb_aret C rfl (Or.inl ⟨_, rfl⟩) (Or.inr ⟨_, rfl⟩) hb.e.2.1 hb.e.2.2 dJ1_append_3_7 ⟨rfl, rfl, hb.e.1⟩
def f_J1_append_2 (Ev : rb_E) (h : AH) (n : Nat) (o : Nat) (x1 : Nat) : Option (Nat × AH × Nat × Nat) := ((hp_k Ev h o 13).bind fun u_1 => ((f_J1_append_3 Ev h n o x1).bind fun (r_4, h_5, k_6, s_7) => (ad k_6 s_7 (some (r_4, h_5, 0, 0)))))
abbrev rm_J1_append_2 (k s : Nat) : Room := { frames := 10, cells := k, slots := s, locals := 223 }
set_option maxHeartbeats 4000000 in
theorem ct_J1_append_2 (Ev : rb_E) (h : AH) (n : Nat) (o : Nat) (x1 : Nat) (r : Nat) (h' : AH) (k s : Nat) (hf : f_J1_append_2 Ev h n o x1 = some (r, h', k, s)) : Ct Ev yJ1_append_2 (ws_ yJ1_append_2 cJ1_append_2 2 (some (.object "java/lang/AbstractStringBuilder"))) (rm_J1_append_2 k s) [.ref o, .ref x1] h n (pX (.inl (some (.ref r))) h' (n + k)) := by
  rw [f_J1_append_2] at hf
  refine Ct.of rfl (Nat.le_of_ble_eq_true rfl) fun X C hnm => ?_
  have C : Cx Ev X RJ1 cJ1_append_2 2 (some (.object "java/lang/AbstractStringBuilder")) [] := C
  show Wa Ev X (rm_J1_append_2 k s) 2 h n 0 0 (rb_MQ Ev X (rm_J1_append_2 k s) (pX (.inl (some (.ref r))) h' (n + k))) 0 [(0, .ref o), (1, .ref x1)] []
  have hb : Bd (n + k) k s n 0 0 k s := ⟨rfl, Nat.le_of_eq (Nat.zero_add _), Nat.le_of_eq (Nat.zero_add _)⟩
  refine rb_aload_n C dJ1_append_2_0 rfl 0 rfl ?_
  refine rb_aload_n C dJ1_append_2_1 rfl 1 rfl ?_
  obtain ⟨u_1, e_2, hf⟩ := rb_bd hf
  obtain ⟨⟨r_4, h_5, k_6, s_7⟩, e_8, hf⟩ := rb_bd hf
  obtain ⟨a_11, b_12, hf, ea_9, eb_10⟩ := ad_at hf
  refine rb_callV (As := [.ref x1]) (rest := []) C mi_J1_append_3 sv_J1_23 (hp_k_isC C.pf e_2 ck_J1) (ct_J1_append_3 Ev h n o x1 r_4 _ _ _ e_8) rfl rfl (Nat.le_of_ble_eq_true rfl) ⟨Nat.le_of_ble_eq_true rfl, Nat.le_of_ble_eq_true rfl, Bd.c1 hb ea_9, Bd.s1 hb eb_10⟩ dJ1_append_2_2 rb_xX (rb_kX (rb_w (kc := (0 + k_6)) (ks := (0 + s_7)) rfl rfl ?_))
  have hb := Bd.ade hb ea_9 eb_10
  cases hf
  exact rb_aret C rfl (Or.inl ⟨_, rfl⟩) (Or.inr ⟨_, rfl⟩) hb.e.2.1 hb.e.2.2 dJ1_append_2_5 ⟨rfl, rfl, hb.e.1⟩
def f_J0_append (Ev : rb_E) (h : AH) (n : Nat) (o : Nat) (x1 : Nat) : Option (Nat × AH × Nat × Nat) := ((hp_isa Ev h x1 [14] [13]).bind fun v_1 => (if v_1 = 0 then ((hp_isa Ev h x1 [13] []).bind fun v_4 => (if v_4 = 0 then ((hp_cls Ev h x1).bind fun v_7 => (if v_7 = 14 then ((f_J2_length Ev h x1).bind fun v_11 => ((hp_k Ev h o 13).bind fun u_13 => ((f_J1_append_4 Ev h n o x1 0 v_11).bind fun (r_16, h_17, k_18, s_19) => (ad k_18 s_19 (some (r_16, h_17, 0, 0)))))) else (if v_7 = 13 then ((f_J1_length Ev h x1).bind fun v_27 => ((hp_k Ev h o 13).bind fun u_29 => ((f_J1_append_4 Ev h n o x1 0 v_27).bind fun (r_32, h_33, k_34, s_35) => (ad k_34 s_35 (some (r_32, h_33, 0, 0)))))) else none))) else ((hp_ca Ev h x1 [13]).bind fun u_41 => ((hp_k Ev h o 13).bind fun u_43 => ((f_J0_append_3 Ev h n o x1).bind fun (r_46, h_47, k_48, s_49) => (ad k_48 s_49 (some (r_46, h_47, 0, 0)))))))) else ((hp_ca Ev h x1 [14]).bind fun u_55 => ((hp_k Ev h o 13).bind fun u_57 => ((f_J1_append_2 Ev h n o x1).bind fun (r_60, h_61, k_62, s_63) => (ad k_62 s_63 (some (r_60, h_61, 0, 0))))))))
abbrev rm_J0_append (k s : Nat) : Room := { frames := 11, cells := k, slots := s, locals := 244 }
set_option maxHeartbeats 4000000 in
theorem ct_J0_append (Ev : rb_E) (h : AH) (n : Nat) (o : Nat) (x1 : Nat) (r : Nat) (h' : AH) (k s : Nat) (hf : f_J0_append Ev h n o x1 = some (r, h', k, s)) : Ct Ev yJ0_append (ws_ yJ0_append cJ0_append 2 (some (.object "java/lang/AbstractStringBuilder"))) (rm_J0_append k s) [.ref o, .ref x1] h n (pX (.inl (some (.ref r))) h' (n + k)) := by
  rw [f_J0_append] at hf
  refine Ct.of rfl (Nat.le_of_ble_eq_true rfl) fun X C hnm => ?_
  have C : Cx Ev X RJ0 cJ0_append 2 (some (.object "java/lang/AbstractStringBuilder")) [] := C
  show Wa Ev X (rm_J0_append k s) 2 h n 0 0 (rb_MQ Ev X (rm_J0_append k s) (pX (.inl (some (.ref r))) h' (n + k))) 0 [(0, .ref o), (1, .ref x1)] []
  have hb : Bd (n + k) k s n 0 0 k s := ⟨rfl, Nat.le_of_eq (Nat.zero_add _), Nat.le_of_eq (Nat.zero_add _)⟩
  refine rb_aload_n C dJ0_append_0 rfl 1 rfl ?_
  refine rb_ifnonnull (tgt := 9) C dJ0_append_1 (by decide) ?_
  refine rb_aload_n C dJ0_append_9 rfl 1 rfl ?_
  obtain ⟨v_1, e_2, hf⟩ := rb_bd hf
  refine rb_hin C q342 okp_java_lang_String okn_java_lang_String e_2 dJ0_append_10 ?_
  refine rb_if_eq (tgt := 25) C dJ0_append_13 (by decide) (fun c_3 => ?_) (fun c_3 => ?_)
  · have hf := (if_pos c_3).symm.trans hf
    refine rb_aload_n C dJ0_append_25 rfl 1 rfl ?_
    obtain ⟨v_4, e_5, hf⟩ := rb_bd hf
    refine rb_hin C q398 okp_java_lang_AbstractStringBuilder okn_java_lang_AbstractStringBuilder e_5 dJ0_append_26 ?_
    refine rb_if_eq (tgt := 41) C dJ0_append_29 (by decide) (fun c_6 => ?_) (fun c_6 => ?_)
    · have hf := (if_pos c_6).symm.trans hf
      refine rb_aload_n C dJ0_append_41 rfl 0 rfl ?_
      refine rb_aload_n C dJ0_append_42 rfl 1 rfl ?_
      refine rb_iconst (v := 0) C dJ0_append_43 rfl ?_
      refine rb_aload_n C dJ0_append_44 rfl 1 rfl ?_
      obtain ⟨v_7, e_8, hf⟩ := rb_bd hf
      by_cases c_9 : v_7 = 14
      · have hf := (if_pos c_9).symm.trans hf
        subst c_9
        obtain ⟨v_11, e_12, hf⟩ := rb_bd hf
        refine rb_callF (As := []) (rest := [.int 0, .ref x1, .ref o]) C mi_J2_length sf_J0_47_J2 ck_J2 (hp_cls_isC C.pf e_8 ck_J2) (ct_J2_length Ev h n x1 _ e_12) rfl rfl (Nat.le_of_ble_eq_true rfl) ⟨Nat.le_of_ble_eq_true rfl, Nat.le_of_ble_eq_true rfl, hb.c0, hb.s0⟩ dJ0_append_45 rb_xXi (rb_kXi fun hn_10 => (rb_w (kc := 0) (ks := 0) rfl rfl ?_))
        obtain ⟨u_13, e_14, hf⟩ := rb_bd hf
        obtain ⟨⟨r_16, h_17, k_18, s_19⟩, e_20, hf⟩ := rb_bd hf
        obtain ⟨a_23, b_24, hf, ea_21, eb_22⟩ := ad_at hf
        refine rb_callVO (As := [.ref x1, .int 0, .int v_11]) (rest := []) C mi_J1_append_4 so_J0_223_J1_append_4 (hp_k_isC C.pf e_14 ck_J1) (ct_J1_append_4 Ev h n o x1 0 v_11 r_16 _ _ _ e_20) rfl rfl (Nat.le_of_ble_eq_true rfl) ⟨Nat.le_of_ble_eq_true rfl, Nat.le_of_ble_eq_true rfl, Bd.c1 hb ea_21, Bd.s1 hb eb_22⟩ dJ0_append_50 rb_xX (rb_kX (rb_w (kc := (0 + k_18)) (ks := (0 + s_19)) rfl rfl ?_))
        have hb := Bd.ade hb ea_21 eb_22
        cases hf
        exact rb_aret C rfl (Or.inl ⟨_, rfl⟩) (Or.inr ⟨_, rfl⟩) hb.e.2.1 hb.e.2.2 dJ0_append_53 ⟨rfl, rfl, hb.e.1⟩
      have hf := (if_neg c_9).symm.trans hf
      by_cases c_25 : v_7 = 13
      · have hf := (if_pos c_25).symm.trans hf
        subst c_25
        obtain ⟨v_27, e_28, hf⟩ := rb_bd hf
        refine rb_callF (As := []) (rest := [.int 0, .ref x1, .ref o]) C mi_J1_length sf_J0_47_J1 ck_J1 (hp_cls_isC C.pf e_8 ck_J1) (ct_J1_length Ev h n x1 _ e_28) rfl rfl (Nat.le_of_ble_eq_true rfl) ⟨Nat.le_of_ble_eq_true rfl, Nat.le_of_ble_eq_true rfl, hb.c0, hb.s0⟩ dJ0_append_45 rb_xXi (rb_kXi fun hn_26 => (rb_w (kc := 0) (ks := 0) rfl rfl ?_))
        obtain ⟨u_29, e_30, hf⟩ := rb_bd hf
        obtain ⟨⟨r_32, h_33, k_34, s_35⟩, e_36, hf⟩ := rb_bd hf
        obtain ⟨a_39, b_40, hf, ea_37, eb_38⟩ := ad_at hf
        refine rb_callVO (As := [.ref x1, .int 0, .int v_27]) (rest := []) C mi_J1_append_4 so_J0_223_J1_append_4 (hp_k_isC C.pf e_30 ck_J1) (ct_J1_append_4 Ev h n o x1 0 v_27 r_32 _ _ _ e_36) rfl rfl (Nat.le_of_ble_eq_true rfl) ⟨Nat.le_of_ble_eq_true rfl, Nat.le_of_ble_eq_true rfl, Bd.c1 hb ea_37, Bd.s1 hb eb_38⟩ dJ0_append_50 rb_xX (rb_kX (rb_w (kc := (0 + k_34)) (ks := (0 + s_35)) rfl rfl ?_))
        have hb := Bd.ade hb ea_37 eb_38
        cases hf
        exact rb_aret C rfl (Or.inl ⟨_, rfl⟩) (Or.inr ⟨_, rfl⟩) hb.e.2.1 hb.e.2.2 dJ0_append_53 ⟨rfl, rfl, hb.e.1⟩
      have hf := (if_neg c_25).symm.trans hf
      cases hf
    · have hf := (if_neg c_6).symm.trans hf
      refine rb_aload_n C dJ0_append_32 rfl 0 rfl ?_
      refine rb_aload_n C dJ0_append_33 rfl 1 rfl ?_
      obtain ⟨u_41, e_42, hf⟩ := rb_bd hf
      refine rb_hca C q398 okp_java_lang_AbstractStringBuilder e_42 dJ0_append_34 ?_
      obtain ⟨u_43, e_44, hf⟩ := rb_bd hf
      obtain ⟨⟨r_46, h_47, k_48, s_49⟩, e_50, hf⟩ := rb_bd hf
      obtain ⟨a_53, b_54, hf, ea_51, eb_52⟩ := ad_at hf
      refine rb_callU (As := [.ref x1]) (rest := []) C mi_J0_append_3 su_J0_212_J1 (hp_k_isC C.pf e_44 ck_J1) (ct_J0_append_3 Ev h n o x1 r_46 _ _ _ e_50) rfl rfl (Nat.le_of_ble_eq_true rfl) ⟨Nat.le_of_ble_eq_true rfl, Nat.le_of_ble_eq_true rfl, Bd.c1 hb ea_51, Bd.s1 hb eb_52⟩ dJ0_append_37 rb_xX (rb_kX (rb_w (kc := (0 + k_48)) (ks := (0 + s_49)) rfl rfl ?_))
      have hb := Bd.ade hb ea_51 eb_52
      cases hf
      exact rb_aret C rfl (Or.inl ⟨_, rfl⟩) (Or.inr ⟨_, rfl⟩) hb.e.2.1 hb.e.2.2 dJ0_append_40 ⟨rfl, rfl, hb.e.1⟩
  · have hf := (if_neg c_3).symm.trans hf
    refine rb_aload_n C dJ0_append_16 rfl 0 rfl ?_
    refine rb_aload_n C dJ0_append_17 rfl 1 rfl ?_
    obtain ⟨u_55, e_56, hf⟩ := rb_bd hf
    refine rb_hca C q342 okp_java_lang_String e_56 dJ0_append_18 ?_
    obtain ⟨u_57, e_58, hf⟩ := rb_bd hf
    obtain ⟨⟨r_60, h_61, k_62, s_63⟩, e_64, hf⟩ := rb_bd hf
    obtain ⟨a_67, b_68, hf, ea_65, eb_66⟩ := ad_at hf
    refine rb_callVO (As := [.ref x1]) (rest := []) C mi_J1_append_2 so_J0_43_J1_append_2 (hp_k_isC C.pf e_58 ck_J1) (ct_J1_append_2 Ev h n o x1 r_60 _ _ _ e_64) rfl rfl (Nat.le_of_ble_eq_true rfl) ⟨Nat.le_of_ble_eq_true rfl, Nat.le_of_ble_eq_true rfl, Bd.c1 hb ea_65, Bd.s1 hb eb_66⟩ dJ0_append_21 rb_xX (rb_kX (rb_w (kc := (0 + k_62)) (ks := (0 + s_63)) rfl rfl ?_))
    have hb := Bd.ade hb ea_65 eb_66
    cases hf
    exact rb_aret C rfl (Or.inl ⟨_, rfl⟩) (Or.inr ⟨_, rfl⟩) hb.e.2.1 hb.e.2.2 dJ0_append_24 ⟨rfl, rfl, hb.e.1⟩
def f_J1_append (Ev : rb_E) (h : AH) (n : Nat) (o : Nat) (x1 : Nat) : Option (Nat × AH × Nat × Nat) := ((hp_k Ev h o 13).bind fun u_1 => ((f_J0_append Ev h n o x1).bind fun (r_4, h_5, k_6, s_7) => (ad k_6 s_7 (some (o, h_5, 0, 0)))))
abbrev rm_J1_append (k s : Nat) : Room := { frames := 12, cells := k, slots := s, locals := 265 }
set_option maxHeartbeats 4000000 in
theorem ct_J1_append (Ev : rb_E) (h : AH) (n : Nat) (o : Nat) (x1 : Nat) (r : Nat) (h' : AH) (k s : Nat) (hf : f_J1_append Ev h n o x1 = some (r, h', k, s)) : Ct Ev yJ1_append (ws_ yJ1_append cJ1_append 2 (some (.object "java/lang/StringBuilder"))) (rm_J1_append k s) [.ref o, .ref x1] h n (pX (.inl (some (.ref r))) h' (n + k)) := by
  rw [f_J1_append] at hf
  refine Ct.of rfl (Nat.le_of_ble_eq_true rfl) fun X C hnm => ?_
  have C : Cx Ev X RJ1 cJ1_append 2 (some (.object "java/lang/StringBuilder")) [] := C
  show Wa Ev X (rm_J1_append k s) 2 h n 0 0 (rb_MQ Ev X (rm_J1_append k s) (pX (.inl (some (.ref r))) h' (n + k))) 0 [(0, .ref o), (1, .ref x1)] []
  have hb : Bd (n + k) k s n 0 0 k s := ⟨rfl, Nat.le_of_eq (Nat.zero_add _), Nat.le_of_eq (Nat.zero_add _)⟩
  refine rb_aload_n C dJ1_append_0 rfl 0 rfl ?_
  refine rb_aload_n C dJ1_append_1 rfl 1 rfl ?_
  obtain ⟨u_1, e_2, hf⟩ := rb_bd hf
  obtain ⟨⟨r_4, h_5, k_6, s_7⟩, e_8, hf⟩ := rb_bd hf
  obtain ⟨a_11, b_12, hf, ea_9, eb_10⟩ := ad_at hf
  refine rb_callSU (As := [.ref x1]) (rest := []) C mi_J0_append sx_J1_35 ck_J1 (hp_k_isC C.pf e_2 ck_J1) (ct_J0_append Ev h n o x1 r_4 _ _ _ e_8) rfl rfl (Nat.le_of_ble_eq_true rfl) ⟨Nat.le_of_ble_eq_true rfl, Nat.le_of_ble_eq_true rfl, Bd.c1 hb ea_9, Bd.s1 hb eb_10⟩ dJ1_append_2 rb_xX (rb_kX (rb_w (kc := (0 + k_6)) (ks := (0 + s_7)) rfl rfl ?_))
  have hb := Bd.ade hb ea_9 eb_10
  refine rb_pop C dJ1_append_5 rfl ?_
  refine rb_aload_n C dJ1_append_6 rfl 0 rfl ?_
  cases hf
  exact rb_aret C rfl (Or.inl ⟨_, rfl⟩) (Or.inr ⟨_, rfl⟩) hb.e.2.1 hb.e.2.2 dJ1_append_7 ⟨rfl, rfl, hb.e.1⟩
def f_X2_init_2 (Ev : rb_E) (h : AH) (n : Nat) (o : Nat) (x1 : Nat) : Option (Unit × AH × Nat × Nat) := (ad 1 4 (rb_lt (va_up h n (some (.inr (13, [.null, .int 0, .int 0, .int 0])))) fun h_5 => ((f_J1_init Ev h_5 (n + 1) n).bind fun (r_7, h_8, k_9, s_10) => (ad k_9 s_10 ((hp_put h_8 o 1 0 (.ref n)).bind fun h_16 => (if (7 : Int32) < 0 ∨ 65536 < (7 : Int32).toNatClampNeg then none else (ad 1 (7 : Int32).toNatClampNeg (rb_lt (va_up h_16 ((n + 1) + k_9) (some (.inl (eA Ev 0, (7 : Int32).toNatClampNeg, .inl (fun _ => 0))))) fun h_23 => ((hp_is Ev h_23 ((n + 1) + k_9) 0 0).bind fun h_24 => ((hp_is Ev h_24 ((n + 1) + k_9) 1 0).bind fun h_26 => ((hp_is Ev h_26 ((n + 1) + k_9) 2 2).bind fun h_28 => ((hp_is Ev h_28 ((n + 1) + k_9) 3 2).bind fun h_30 => ((hp_is Ev h_30 ((n + 1) + k_9) 4 4).bind fun h_32 => ((hp_is Ev h_32 ((n + 1) + k_9) 5 4).bind fun h_34 => ((hp_is Ev h_34 ((n + 1) + k_9) 6 3).bind fun h_36 => ((hp_put h_36 o 1 1 (.ref ((n + 1) + k_9))).bind fun h_38 => (if (6 : Int32) < 0 ∨ 65536 < (6 : Int32).toNatClampNeg then none else (ad 1 (6 : Int32).toNatClampNeg (rb_lt (va_up h_38 (((n + 1) + k_9) + 1) (some (.inl (eA Ev 7, (6 : Int32).toNatClampNeg, aQ (fun _ => none))))) fun h_45 => ((hp_sp Ev "RainbowOperators$Meaning" "SUM").bind fun v_46 => ((hp_en Ev v_46).bind fun u_49 => ((hp_as Ev h_45 7 (((n + 1) + k_9) + 1) 0 (some v_46)).bind fun h_48 => ((hp_sp Ev "RainbowOperators$Meaning" "DIFFERENCE").bind fun v_52 => ((hp_en Ev v_52).bind fun u_55 => ((hp_as Ev h_48 7 (((n + 1) + k_9) + 1) 1 (some v_52)).bind fun h_54 => ((hp_sp Ev "RainbowOperators$Meaning" "PRODUCT").bind fun v_58 => ((hp_en Ev v_58).bind fun u_61 => ((hp_as Ev h_54 7 (((n + 1) + k_9) + 1) 2 (some v_58)).bind fun h_60 => ((hp_sp Ev "RainbowOperators$Meaning" "LESSER").bind fun v_64 => ((hp_en Ev v_64).bind fun u_67 => ((hp_as Ev h_60 7 (((n + 1) + k_9) + 1) 3 (some v_64)).bind fun h_66 => ((hp_sp Ev "RainbowOperators$Meaning" "GREATER").bind fun v_70 => ((hp_en Ev v_70).bind fun u_73 => ((hp_as Ev h_66 7 (((n + 1) + k_9) + 1) 4 (some v_70)).bind fun h_72 => ((hp_sp Ev "RainbowOperators$Meaning" "JOINT").bind fun v_76 => ((hp_en Ev v_76).bind fun u_79 => ((hp_as Ev h_72 7 (((n + 1) + k_9) + 1) 5 (some v_76)).bind fun h_78 => ((hp_put h_78 o 1 2 (.ref (((n + 1) + k_9) + 1))).bind fun h_82 => (if (7 : Int32) < 0 ∨ 65536 < (7 : Int32).toNatClampNeg then none else (ad 1 (7 : Int32).toNatClampNeg (rb_lt (va_up h_82 ((((n + 1) + k_9) + 1) + 1) (some (.inl (eA Ev 2, (7 : Int32).toNatClampNeg, .inl (fun _ => 0))))) fun h_89 => ((hp_zs Ev h_89 ((((n + 1) + k_9) + 1) + 1) 0 0).bind fun h_90 => ((hp_zs Ev h_90 ((((n + 1) + k_9) + 1) + 1) 1 0).bind fun h_92 => ((hp_zs Ev h_92 ((((n + 1) + k_9) + 1) + 1) 2 0).bind fun h_94 => ((hp_zs Ev h_94 ((((n + 1) + k_9) + 1) + 1) 3 0).bind fun h_96 => ((hp_zs Ev h_96 ((((n + 1) + k_9) + 1) + 1) 4 1).bind fun h_98 => ((hp_zs Ev h_98 ((((n + 1) + k_9) + 1) + 1) 5 1).bind fun h_100 => ((hp_zs Ev h_100 ((((n + 1) + k_9) + 1) + 1) 6 1).bind fun h_102 => ((hp_put h_102 o 1 3 (.ref ((((n + 1) + k_9) + 1) + 1))).bind fun h_104 => (if (5 : Int32) < 0 ∨ 65536 < (5 : Int32).toNatClampNeg then none else (ad 1 (5 : Int32).toNatClampNeg (rb_lt (va_up h_104 (((((n + 1) + k_9) + 1) + 1) + 1) (some (.inl (eA Ev 0, (5 : Int32).toNatClampNeg, .inl (fun _ => 0))))) fun h_111 => ((hp_put h_111 o 1 4 (.ref (((((n + 1) + k_9) + 1) + 1) + 1))).bind fun h_112 => ((hp_p Ev h_112 o 1 0).bind fun v_114 => ((hp_p Ev h_112 x1 1 0).bind fun v_116 => ((hp_k Ev h_112 v_114 13).bind fun u_118 => ((f_J1_append Ev h_112 ((((((n + 1) + k_9) + 1) + 1) + 1) + 1) v_114 v_116).bind fun (r_121, h_122, k_123, s_124) => (ad k_123 s_124 ((hp_p Ev h_122 x1 1 1).bind fun v_130 => ((hp_p Ev h_122 o 1 1).bind fun v_132 => ((hp_p Ev h_122 o 1 1).bind fun v_134 => ((hp_len Ev h_122 v_134 0).bind fun v_136 => ((hp_cpi Ev h_122 0 .int v_130 0 v_132 0 (nI v_136)).bind fun h_138 => ((hp_p Ev h_138 x1 1 2).bind fun v_140 => ((hp_p Ev h_138 o 1 2).bind fun v_142 => ((hp_p Ev h_138 o 1 2).bind fun v_144 => ((hp_len Ev h_138 v_144 7).bind fun v_146 => ((hp_cpe Ev h_138 7 v_140 0 v_142 0 (nI v_146)).bind fun h_148 => ((hp_p Ev h_148 x1 1 3).bind fun v_150 => ((hp_p Ev h_148 o 1 3).bind fun v_152 => ((hp_cpi Ev h_148 2 .boolean v_150 0 v_152 0 7).bind fun h_154 => ((hp_p Ev h_154 x1 1 4).bind fun v_156 => ((hp_p Ev h_154 o 1 4).bind fun v_158 => ((hp_cpi Ev h_154 0 .int v_156 0 v_158 0 5).bind fun h_160 => (some ((), h_160, 0, 0))))))))))))))))))))))))))))))))))))))))))))))))))))))))))))))))))))))))))))
abbrev rm_X2_init_2 (k s : Nat) : Room := { frames := 13, cells := k, slots := s, locals := 286 }
set_option maxHeartbeats 4000000 in
theorem ct_X2_init_2 (Ev : rb_E) (h : AH) (n : Nat) (o : Nat) (x1 : Nat) (r : Unit) (h' : AH) (k s : Nat) (hf : f_X2_init_2 Ev h n o x1 = some (r, h', k, s)) : Ct Ev yX2_init_2 (ws_ yX2_init_2 cX2_init_2 2 none) (rm_X2_init_2 k s) [.ref o, .ref x1] h n (pX (.inl (none)) h' (n + k)) := by
  rw [f_X2_init_2] at hf
  refine Ct.of rfl (Nat.le_of_ble_eq_true rfl) fun X C hnm => ?_
  have C : Cx Ev X RX2 cX2_init_2 2 none [] := C
  show Wa Ev X (rm_X2_init_2 k s) 2 h n 0 0 (rb_MQ Ev X (rm_X2_init_2 k s) (pX (.inl (none)) h' (n + k))) 0 [(0, .ref o), (1, .ref x1)] []
  have hb : Bd (n + k) k s n 0 0 k s := ⟨rfl, Nat.le_of_eq (Nat.zero_add _), Nat.le_of_eq (Nat.zero_add _)⟩
  refine rb_aload_n C dX2_init_2_0 rfl 0 rfl ?_
  refine rb_objInit C q130 q123 q124 dX2_init_2_1 (Nat.le_of_ble_eq_true rfl) (Nat.le_of_ble_eq_true rfl) ?_
  refine rb_aload_n C dX2_init_2_4 rfl 0 rfl ?_
  obtain ⟨a_3, b_4, hf, ea_1, eb_2⟩ := ad_at hf
  refine rb_hnew C ck_J1 q131 q132 q72 [.null, .int 0, .int 0, .int 0] rfl (Bd.c1 hb ea_1) (Bd.s1 hb eb_2) dX2_init_2_5 ?_
  have hb := Bd.ade hb ea_1 eb_2
  obtain ⟨h_5, e_h_5⟩ : ∃ z, z = (va_up h n (some (.inr (13, [.null, .int 0, .int 0, .int 0])))) := ⟨_, rfl⟩
  rw [← e_h_5]
  have hf := rb_let hf e_h_5
  refine rb_dup C dX2_init_2_8 rfl ?_
  obtain ⟨⟨r_7, h_8, k_9, s_10⟩, e_11, hf⟩ := rb_bd hf
  obtain ⟨a_14, b_15, hf, ea_12, eb_13⟩ := ad_at hf
  refine rb_callI (As := []) (rest := [.ref n, .ref o]) C mi_J1_init si_X2_11 (ct_J1_init Ev h_5 (n + 1) n r_7 _ _ _ e_11) rfl rfl (Nat.le_of_ble_eq_true rfl) ⟨Nat.le_of_ble_eq_true rfl, Nat.le_of_ble_eq_true rfl, Bd.c1 hb ea_12, Bd.s1 hb eb_13⟩ dX2_init_2_9 rb_xX (rb_kX (rb_w (kc := ((0 + 1) + k_9)) (ks := ((0 + 4) + s_10)) rfl rfl ?_))
  have hb := Bd.ade hb ea_12 eb_13
  obtain ⟨h_16, e_17, hf⟩ := rb_bd hf
  refine rb_hputF C ff_X2_12_X2 hnm e_17 rfl rfl dX2_init_2_12 ?_
  refine rb_aload_n C dX2_init_2_15 rfl 0 rfl ?_
  refine rb_bipush (v := 7) C dX2_init_2_16 rfl ?_
  by_cases c_g_18 : (7 : Int32) < 0 ∨ 65536 < (7 : Int32).toNatClampNeg
  · exact absurd ((if_pos c_g_18).symm.trans hf) (fun z => by cases z)
  have hf := (if_neg c_g_18).symm.trans hf
  obtain ⟨a_21, b_22, hf, ea_19, eb_20⟩ := ad_at hf
  refine rb_hnewa (atype := .int) C 0 rfl rfl rfl q202 c_g_18 ((7 : Int32).toNatClampNeg, .inl (fun _ => 0)) (fun _ => rfl) (Bd.c1 hb ea_19) (Bd.s1 hb eb_20) dX2_init_2_18 ?_
  have hb := Bd.ade hb ea_19 eb_20
  obtain ⟨h_23, e_h_23⟩ : ∃ z, z = (va_up h_16 ((n + 1) + k_9) (some (.inl (eA Ev 0, (7 : Int32).toNatClampNeg, .inl (fun _ => 0))))) := ⟨_, rfl⟩
  rw [← e_h_23]
  have hf := rb_let hf e_h_23
  refine rb_dup C dX2_init_2_20 rfl ?_
  refine rb_iconst (v := 0) C dX2_init_2_21 rfl ?_
  refine rb_iconst (v := 0) C dX2_init_2_22 rfl ?_
  obtain ⟨h_24, e_25, hf⟩ := rb_bd hf
  refine rb_his C e_25 dX2_init_2_23 ?_
  refine rb_dup C dX2_init_2_24 rfl ?_
  refine rb_iconst (v := 1) C dX2_init_2_25 rfl ?_
  refine rb_iconst (v := 0) C dX2_init_2_26 rfl ?_
  obtain ⟨h_26, e_27, hf⟩ := rb_bd hf
  refine rb_his C e_27 dX2_init_2_27 ?_
  refine rb_dup C dX2_init_2_28 rfl ?_
  refine rb_iconst (v := 2) C dX2_init_2_29 rfl ?_
  refine rb_iconst (v := 2) C dX2_init_2_30 rfl ?_
  obtain ⟨h_28, e_29, hf⟩ := rb_bd hf
  refine rb_his C e_29 dX2_init_2_31 ?_
  refine rb_dup C dX2_init_2_32 rfl ?_
  refine rb_iconst (v := 3) C dX2_init_2_33 rfl ?_
  refine rb_iconst (v := 2) C dX2_init_2_34 rfl ?_
  obtain ⟨h_30, e_31, hf⟩ := rb_bd hf
  refine rb_his C e_31 dX2_init_2_35 ?_
  refine rb_dup C dX2_init_2_36 rfl ?_
  refine rb_iconst (v := 4) C dX2_init_2_37 rfl ?_
  refine rb_iconst (v := 4) C dX2_init_2_38 rfl ?_
  obtain ⟨h_32, e_33, hf⟩ := rb_bd hf
  refine rb_his C e_33 dX2_init_2_39 ?_
  refine rb_dup C dX2_init_2_40 rfl ?_
  refine rb_iconst (v := 5) C dX2_init_2_41 rfl ?_
  refine rb_iconst (v := 4) C dX2_init_2_42 rfl ?_
  obtain ⟨h_34, e_35, hf⟩ := rb_bd hf
  refine rb_his C e_35 dX2_init_2_43 ?_
  refine rb_dup C dX2_init_2_44 rfl ?_
  refine rb_bipush (v := 6) C dX2_init_2_45 rfl ?_
  refine rb_iconst (v := 3) C dX2_init_2_47 rfl ?_
  obtain ⟨h_36, e_37, hf⟩ := rb_bd hf
  refine rb_his C e_37 dX2_init_2_48 ?_
  obtain ⟨h_38, e_39, hf⟩ := rb_bd hf
  refine rb_hputF C ff_X2_18_X2 hnm e_39 rfl rfl dX2_init_2_49 ?_
  refine rb_aload_n C dX2_init_2_52 rfl 0 rfl ?_
  refine rb_bipush (v := 6) C dX2_init_2_53 rfl ?_
  by_cases c_g_40 : (6 : Int32) < 0 ∨ 65536 < (6 : Int32).toNatClampNeg
  · exact absurd ((if_pos c_g_40).symm.trans hf) (fun z => by cases z)
  have hf := (if_neg c_g_40).symm.trans hf
  obtain ⟨a_43, b_44, hf, ea_41, eb_42⟩ := ad_at hf
  refine rb_hnewq C 7 rfl q164 q165 c_g_40 (Bd.c1 hb ea_41) (Bd.s1 hb eb_42) dX2_init_2_55 ?_
  have hb := Bd.ade hb ea_41 eb_42
  obtain ⟨h_45, e_h_45⟩ : ∃ z, z = (va_up h_38 (((n + 1) + k_9) + 1) (some (.inl (eA Ev 7, (6 : Int32).toNatClampNeg, aQ (fun _ => none))))) := ⟨_, rfl⟩
  rw [← e_h_45]
  have hf := rb_let hf e_h_45
  refine rb_dup C dX2_init_2_58 rfl ?_
  refine rb_iconst (v := 0) C dX2_init_2_59 rfl ?_
  obtain ⟨v_46, e_47, hf⟩ := rb_bd hf
  refine rb_hsp C q166 q167 e_47 dX2_init_2_60 ?_
  obtain ⟨u_49, e_50, hf⟩ := rb_bd hf
  obtain ⟨h_48, e_51, hf⟩ := rb_bd hf
  refine rb_hasE C 7 rfl en_ok e_50 e_51 dX2_init_2_63 ?_
  refine rb_dup C dX2_init_2_64 rfl ?_
  refine rb_iconst (v := 1) C dX2_init_2_65 rfl ?_
  obtain ⟨v_52, e_53, hf⟩ := rb_bd hf
  refine rb_hsp C q168 q169 e_53 dX2_init_2_66 ?_
  obtain ⟨u_55, e_56, hf⟩ := rb_bd hf
  obtain ⟨h_54, e_57, hf⟩ := rb_bd hf
  refine rb_hasE C 7 rfl en_ok e_56 e_57 dX2_init_2_69 ?_
  refine rb_dup C dX2_init_2_70 rfl ?_
  refine rb_iconst (v := 2) C dX2_init_2_71 rfl ?_
  obtain ⟨v_58, e_59, hf⟩ := rb_bd hf
  refine rb_hsp C q170 q171 e_59 dX2_init_2_72 ?_
  obtain ⟨u_61, e_62, hf⟩ := rb_bd hf
  obtain ⟨h_60, e_63, hf⟩ := rb_bd hf
  refine rb_hasE C 7 rfl en_ok e_62 e_63 dX2_init_2_75 ?_
  refine rb_dup C dX2_init_2_76 rfl ?_
  refine rb_iconst (v := 3) C dX2_init_2_77 rfl ?_
  obtain ⟨v_64, e_65, hf⟩ := rb_bd hf
  refine rb_hsp C q172 q173 e_65 dX2_init_2_78 ?_
  obtain ⟨u_67, e_68, hf⟩ := rb_bd hf
  obtain ⟨h_66, e_69, hf⟩ := rb_bd hf
  refine rb_hasE C 7 rfl en_ok e_68 e_69 dX2_init_2_81 ?_
  refine rb_dup C dX2_init_2_82 rfl ?_
  refine rb_iconst (v := 4) C dX2_init_2_83 rfl ?_
  obtain ⟨v_70, e_71, hf⟩ := rb_bd hf
  refine rb_hsp C q174 q175 e_71 dX2_init_2_84 ?_
  obtain ⟨u_73, e_74, hf⟩ := rb_bd hf
  obtain ⟨h_72, e_75, hf⟩ := rb_bd hf
  refine rb_hasE C 7 rfl en_ok e_74 e_75 dX2_init_2_87 ?_
  refine rb_dup C dX2_init_2_88 rfl ?_
  refine rb_iconst (v := 5) C dX2_init_2_89 rfl ?_
  obtain ⟨v_76, e_77, hf⟩ := rb_bd hf
  refine rb_hsp C q176 q177 e_77 dX2_init_2_90 ?_
  obtain ⟨u_79, e_80, hf⟩ := rb_bd hf
  obtain ⟨h_78, e_81, hf⟩ := rb_bd hf
  refine rb_hasE C 7 rfl en_ok e_80 e_81 dX2_init_2_93 ?_
  obtain ⟨h_82, e_83, hf⟩ := rb_bd hf
  refine rb_hputF C ff_X2_43_X2 hnm e_83 rfl rfl dX2_init_2_94 ?_
  refine rb_aload_n C dX2_init_2_97 rfl 0 rfl ?_
  refine rb_bipush (v := 7) C dX2_init_2_98 rfl ?_
  by_cases c_g_84 : (7 : Int32) < 0 ∨ 65536 < (7 : Int32).toNatClampNeg
  · exact absurd ((if_pos c_g_84).symm.trans hf) (fun z => by cases z)
  have hf := (if_neg c_g_84).symm.trans hf
  obtain ⟨a_87, b_88, hf, ea_85, eb_86⟩ := ad_at hf
  refine rb_hnewa (atype := .boolean) C 2 rfl rfl rfl q203 c_g_84 ((7 : Int32).toNatClampNeg, .inl (fun _ => 0)) (fun _ => rfl) (Bd.c1 hb ea_85) (Bd.s1 hb eb_86) dX2_init_2_100 ?_
  have hb := Bd.ade hb ea_85 eb_86
  obtain ⟨h_89, e_h_89⟩ : ∃ z, z = (va_up h_82 ((((n + 1) + k_9) + 1) + 1) (some (.inl (eA Ev 2, (7 : Int32).toNatClampNeg, .inl (fun _ => 0))))) := ⟨_, rfl⟩
  rw [← e_h_89]
  have hf := rb_let hf e_h_89
  refine rb_dup C dX2_init_2_102 rfl ?_
  refine rb_iconst (v := 0) C dX2_init_2_103 rfl ?_
  refine rb_iconst (v := 0) C dX2_init_2_104 rfl ?_
  obtain ⟨h_90, e_91, hf⟩ := rb_bd hf
  refine rb_hzs C e_91 dX2_init_2_105 ?_
  refine rb_dup C dX2_init_2_106 rfl ?_
  refine rb_iconst (v := 1) C dX2_init_2_107 rfl ?_
  refine rb_iconst (v := 0) C dX2_init_2_108 rfl ?_
  obtain ⟨h_92, e_93, hf⟩ := rb_bd hf
  refine rb_hzs C e_93 dX2_init_2_109 ?_
  refine rb_dup C dX2_init_2_110 rfl ?_
  refine rb_iconst (v := 2) C dX2_init_2_111 rfl ?_
  refine rb_iconst (v := 0) C dX2_init_2_112 rfl ?_
  obtain ⟨h_94, e_95, hf⟩ := rb_bd hf
  refine rb_hzs C e_95 dX2_init_2_113 ?_
  refine rb_dup C dX2_init_2_114 rfl ?_
  refine rb_iconst (v := 3) C dX2_init_2_115 rfl ?_
  refine rb_iconst (v := 0) C dX2_init_2_116 rfl ?_
  obtain ⟨h_96, e_97, hf⟩ := rb_bd hf
  refine rb_hzs C e_97 dX2_init_2_117 ?_
  refine rb_dup C dX2_init_2_118 rfl ?_
  refine rb_iconst (v := 4) C dX2_init_2_119 rfl ?_
  refine rb_iconst (v := 1) C dX2_init_2_120 rfl ?_
  obtain ⟨h_98, e_99, hf⟩ := rb_bd hf
  refine rb_hzs C e_99 dX2_init_2_121 ?_
  refine rb_dup C dX2_init_2_122 rfl ?_
  refine rb_iconst (v := 5) C dX2_init_2_123 rfl ?_
  refine rb_iconst (v := 1) C dX2_init_2_124 rfl ?_
  obtain ⟨h_100, e_101, hf⟩ := rb_bd hf
  refine rb_hzs C e_101 dX2_init_2_125 ?_
  refine rb_dup C dX2_init_2_126 rfl ?_
  refine rb_bipush (v := 6) C dX2_init_2_127 rfl ?_
  refine rb_iconst (v := 1) C dX2_init_2_129 rfl ?_
  obtain ⟨h_102, e_103, hf⟩ := rb_bd hf
  refine rb_hzs C e_103 dX2_init_2_130 ?_
  obtain ⟨h_104, e_105, hf⟩ := rb_bd hf
  refine rb_hputF C ff_X2_47_X2 hnm e_105 rfl rfl dX2_init_2_131 ?_
  refine rb_aload_n C dX2_init_2_134 rfl 0 rfl ?_
  refine rb_iconst (v := 5) C dX2_init_2_135 rfl ?_
  by_cases c_g_106 : (5 : Int32) < 0 ∨ 65536 < (5 : Int32).toNatClampNeg
  · exact absurd ((if_pos c_g_106).symm.trans hf) (fun z => by cases z)
  have hf := (if_neg c_g_106).symm.trans hf
  obtain ⟨a_109, b_110, hf, ea_107, eb_108⟩ := ad_at hf
  refine rb_hnewa (atype := .int) C 0 rfl rfl rfl q202 c_g_106 ((5 : Int32).toNatClampNeg, .inl (fun _ => 0)) (fun _ => rfl) (Bd.c1 hb ea_107) (Bd.s1 hb eb_108) dX2_init_2_136 ?_
  have hb := Bd.ade hb ea_107 eb_108
  obtain ⟨h_111, e_h_111⟩ : ∃ z, z = (va_up h_104 (((((n + 1) + k_9) + 1) + 1) + 1) (some (.inl (eA Ev 0, (5 : Int32).toNatClampNeg, .inl (fun _ => 0))))) := ⟨_, rfl⟩
  rw [← e_h_111]
  have hf := rb_let hf e_h_111
  obtain ⟨h_112, e_113, hf⟩ := rb_bd hf
  refine rb_hputF C ff_X2_51_X2 hnm e_113 rfl rfl dX2_init_2_138 ?_
  refine rb_aload_n C dX2_init_2_141 rfl 0 rfl ?_
  obtain ⟨v_114, e_115, hf⟩ := rb_bd hf
  refine rb_hP C fl_X2_12_X2 e_115 dX2_init_2_142 ?_
  refine rb_aload_n C dX2_init_2_145 rfl 1 rfl ?_
  obtain ⟨v_116, e_117, hf⟩ := rb_bd hf
  refine rb_hP C fl_X2_12_X2 e_117 dX2_init_2_146 ?_
  obtain ⟨u_118, e_119, hf⟩ := rb_bd hf
  obtain ⟨⟨r_121, h_122, k_123, s_124⟩, e_125, hf⟩ := rb_bd hf
  obtain ⟨a_128, b_129, hf, ea_126, eb_127⟩ := ad_at hf
  refine rb_callV (As := [.ref v_116]) (rest := []) C mi_J1_append sv_X2_54 (hp_k_isC C.pf e_119 ck_J1) (ct_J1_append Ev h_112 ((((((n + 1) + k_9) + 1) + 1) + 1) + 1) v_114 v_116 r_121 _ _ _ e_125) rfl rfl (Nat.le_of_ble_eq_true rfl) ⟨Nat.le_of_ble_eq_true rfl, Nat.le_of_ble_eq_true rfl, Bd.c1 hb ea_126, Bd.s1 hb eb_127⟩ dX2_init_2_149 rb_xX (rb_kX (rb_w (kc := (((((((0 + 1) + k_9) + 1) + 1) + 1) + 1) + k_123)) (ks := (((((((0 + 4) + s_10) + (7 : Int32).toNatClampNeg) + (6 : Int32).toNatClampNeg) + (7 : Int32).toNatClampNeg) + (5 : Int32).toNatClampNeg) + s_124)) rfl rfl ?_))
  have hb := Bd.ade hb ea_126 eb_127
  refine rb_pop C dX2_init_2_152 rfl ?_
  refine rb_aload_n C dX2_init_2_153 rfl 1 rfl ?_
  obtain ⟨v_130, e_131, hf⟩ := rb_bd hf
  refine rb_hP C fl_X2_18_X2 e_131 dX2_init_2_154 ?_
  refine rb_iconst (v := 0) C dX2_init_2_157 rfl ?_
  refine rb_aload_n C dX2_init_2_158 rfl 0 rfl ?_
  obtain ⟨v_132, e_133, hf⟩ := rb_bd hf
  refine rb_hP C fl_X2_18_X2 e_133 dX2_init_2_159 ?_
  refine rb_iconst (v := 0) C dX2_init_2_162 rfl ?_
  refine rb_aload_n C dX2_init_2_163 rfl 0 rfl ?_
  obtain ⟨v_134, e_135, hf⟩ := rb_bd hf
  refine rb_hP C fl_X2_18_X2 e_135 dX2_init_2_164 ?_
  obtain ⟨v_136, e_137, hf⟩ := rb_bd hf
  refine rb_hlen (t := 0) C rfl e_137 dX2_init_2_167 ?_
  obtain ⟨h_138, e_139, hf⟩ := rb_bd hf
  refine rb_hcpi C 0 q524 q310 q309 q83 rfl rfl e_139 (Nat.le_of_ble_eq_true rfl) (Nat.le_of_ble_eq_true rfl) dX2_init_2_168 ?_
  refine rb_aload_n C dX2_init_2_171 rfl 1 rfl ?_
  obtain ⟨v_140, e_141, hf⟩ := rb_bd hf
  refine rb_hP C fl_X2_43_X2 e_141 dX2_init_2_172 ?_
  refine rb_iconst (v := 0) C dX2_init_2_175 rfl ?_
  refine rb_aload_n C dX2_init_2_176 rfl 0 rfl ?_
  obtain ⟨v_142, e_143, hf⟩ := rb_bd hf
  refine rb_hP C fl_X2_43_X2 e_143 dX2_init_2_177 ?_
  refine rb_iconst (v := 0) C dX2_init_2_180 rfl ?_
  refine rb_aload_n C dX2_init_2_181 rfl 0 rfl ?_
  obtain ⟨v_144, e_145, hf⟩ := rb_bd hf
  refine rb_hP C fl_X2_43_X2 e_145 dX2_init_2_182 ?_
  obtain ⟨v_146, e_147, hf⟩ := rb_bd hf
  refine rb_hlen (t := 7) C rfl e_147 dX2_init_2_185 ?_
  obtain ⟨h_148, e_149, hf⟩ := rb_bd hf
  refine rb_hcpe C 7 q524 q310 q309 q83 rfl en_ok e_149 (Nat.le_of_ble_eq_true rfl) (Nat.le_of_ble_eq_true rfl) dX2_init_2_186 ?_
  refine rb_aload_n C dX2_init_2_189 rfl 1 rfl ?_
  obtain ⟨v_150, e_151, hf⟩ := rb_bd hf
  refine rb_hP C fl_X2_47_X2 e_151 dX2_init_2_190 ?_
  refine rb_iconst (v := 0) C dX2_init_2_193 rfl ?_
  refine rb_aload_n C dX2_init_2_194 rfl 0 rfl ?_
  obtain ⟨v_152, e_153, hf⟩ := rb_bd hf
  refine rb_hP C fl_X2_47_X2 e_153 dX2_init_2_195 ?_
  refine rb_iconst (v := 0) C dX2_init_2_198 rfl ?_
  refine rb_bipush (v := 7) C dX2_init_2_199 rfl ?_
  obtain ⟨h_154, e_155, hf⟩ := rb_bd hf
  refine rb_hcpi C 2 q524 q310 q309 q83 rfl rfl e_155 (Nat.le_of_ble_eq_true rfl) (Nat.le_of_ble_eq_true rfl) dX2_init_2_201 ?_
  refine rb_aload_n C dX2_init_2_204 rfl 1 rfl ?_
  obtain ⟨v_156, e_157, hf⟩ := rb_bd hf
  refine rb_hP C fl_X2_51_X2 e_157 dX2_init_2_205 ?_
  refine rb_iconst (v := 0) C dX2_init_2_208 rfl ?_
  refine rb_aload_n C dX2_init_2_209 rfl 0 rfl ?_
  obtain ⟨v_158, e_159, hf⟩ := rb_bd hf
  refine rb_hP C fl_X2_51_X2 e_159 dX2_init_2_210 ?_
  refine rb_iconst (v := 0) C dX2_init_2_213 rfl ?_
  refine rb_iconst (v := 5) C dX2_init_2_214 rfl ?_
  obtain ⟨h_160, e_161, hf⟩ := rb_bd hf
  refine rb_hcpi C 0 q524 q310 q309 q83 rfl rfl e_161 (Nat.le_of_ble_eq_true rfl) (Nat.le_of_ble_eq_true rfl) dX2_init_2_215 ?_
  cases hf
  exact rb_vret C rfl hb.e.2.1 hb.e.2.2 dX2_init_2_218 ⟨rfl, rfl, hb.e.1⟩
def f_X5_init (Ev : rb_E) (h : AH) (n : Nat) (o : Nat) (x1 : Nat) (x2 : Nat) (x3 : Int32) : Option (Unit × AH × Nat × Nat) := ((hp_put h o 3 0 (.ref x1)).bind fun h_1 => ((hp_put h_1 o 3 1 (.ref x2)).bind fun h_3 => ((hp_put h_3 o 3 2 (.int x3)).bind fun h_5 => (some ((), h_5, 0, 0)))))
abbrev rm_X5_init (k s : Nat) : Room := { frames := 1, cells := k, slots := s, locals := 40 }
set_option maxHeartbeats 4000000 in
theorem ct_X5_init (Ev : rb_E) (h : AH) (n : Nat) (o : Nat) (x1 : Nat) (x2 : Nat) (x3 : Int32) (r : Unit) (h' : AH) (k s : Nat) (hf : f_X5_init Ev h n o x1 x2 x3 = some (r, h', k, s)) : Ct Ev yX5_init (ws_ yX5_init cX5_init 4 none) (rm_X5_init k s) [.ref o, .ref x1, .ref x2, .int x3] h n (pX (.inl (none)) h' (n + k)) := by
  rw [f_X5_init] at hf
  refine Ct.of rfl (Nat.le_of_ble_eq_true rfl) fun X C hnm => ?_
  have C : Cx Ev X RX5 cX5_init 4 none [] := C
  show Wa Ev X (rm_X5_init k s) 4 h n 0 0 (rb_MQ Ev X (rm_X5_init k s) (pX (.inl (none)) h' (n + k))) 0 [(0, .ref o), (1, .ref x1), (2, .ref x2), (3, .int x3)] []
  have hb : Bd (n + k) k s n 0 0 k s := ⟨rfl, Nat.le_of_eq (Nat.zero_add _), Nat.le_of_eq (Nat.zero_add _)⟩
  refine rb_aload_n C dX5_init_0 rfl 0 rfl ?_
  refine rb_objInit C q530 q123 q124 dX5_init_1 (Nat.le_of_ble_eq_true rfl) (Nat.le_of_ble_eq_true rfl) ?_
  refine rb_aload_n C dX5_init_4 rfl 0 rfl ?_
  refine rb_aload_n C dX5_init_5 rfl 1 rfl ?_
  obtain ⟨h_1, e_2, hf⟩ := rb_bd hf
  refine rb_hputF C ff_X5_7_X5 hnm e_2 rfl rfl dX5_init_6 ?_
  refine rb_aload_n C dX5_init_9 rfl 0 rfl ?_
  refine rb_aload_n C dX5_init_10 rfl 2 rfl ?_
  obtain ⟨h_3, e_4, hf⟩ := rb_bd hf
  refine rb_hputF C ff_X5_13_X5 hnm e_4 rfl rfl dX5_init_11 ?_
  refine rb_aload_n C dX5_init_14 rfl 0 rfl ?_
  refine rb_iload_n C dX5_init_15 rfl 3 rfl ?_
  obtain ⟨h_5, e_6, hf⟩ := rb_bd hf
  refine rb_hputF C ff_X5_16_X5 hnm e_6 rfl rfl dX5_init_16 ?_
  cases hf
  exact rb_vret C rfl hb.e.2.1 hb.e.2.2 dX5_init_19 ⟨rfl, rfl, hb.e.1⟩
def f_J7_signedHashCode_l8_1 (Ev : rb_E) (x1 : Nat) (x2 : Int32) (x3 : Int32) (h : AH) : Nat → Int32 → Int32 → Option Int32
  | 0, _, _ => none
  | k_l8_1 + 1, y0_l8_1, y5_l8_1 => (if (x2 + x3) ≤ y5_l8_1 then (some y0_l8_1) else ((hp_bl Ev h x1 y5_l8_1).bind fun v_3 => ((f_J7_signedHashCode_l8_1 Ev x1 x2 x3 h k_l8_1) ((31 * y0_l8_1) + (v_3 &&& 255)) (y5_l8_1 + 1))))
def f_J7_signedHashCode (Ev : rb_E) (h : AH) (x0 : Int32) (x1 : Nat) (x2 : Int32) (x3 : Int32) : Option Int32 := (f_J7_signedHashCode_l8_1 Ev x1 x2 x3 h 4096 x0 x2)
abbrev rm_J7_signedHashCode : Room := { frames := 0, cells := 0, slots := 0, locals := 0 }
set_option maxHeartbeats 4000000 in
theorem ct_J7_signedHashCode (Ev : rb_E) (h : AH) (n : Nat) (x0 : Int32) (x1 : Nat) (x2 : Int32) (x3 : Int32) (r : Int32) (hf : f_J7_signedHashCode Ev h x0 x1 x2 x3 = some r) : Ct Ev yJ7_signedHashCode (ws_ yJ7_signedHashCode cJ7_signedHashCode 6 (some .int)) (rm_J7_signedHashCode) [.int x0, .ref x1, .int x2, .int x3] h n (pXi .int r h n) := by
  rw [f_J7_signedHashCode] at hf
  refine Ct.of rfl (Nat.le_of_ble_eq_true rfl) fun X C hnm => ?_
  have C : Cx Ev X RJ7 cJ7_signedHashCode 6 (some .int) [] := C
  show Wa Ev X (rm_J7_signedHashCode) 6 h n 0 0 (rb_MQ Ev X (rm_J7_signedHashCode) (pXi .int r h n)) 0 [(0, .int x0), (1, .ref x1), (2, .int x2), (3, .int x3)] []
  refine rb_iload_n C dJ7_signedHashCode_0 rfl 2 rfl ?_
  refine rb_iload_n C dJ7_signedHashCode_1 rfl 3 rfl ?_
  refine rb_iadd C dJ7_signedHashCode_2 ?_
  refine rb_istore (lv' := [(4, .int (x2 + x3)), (0, .int x0), (1, .ref x1), (2, .int x2), (3, .int x3)]) C dJ7_signedHashCode_3 (by decide) rfl ?_
  refine rb_iload_n C dJ7_signedHashCode_5 rfl 3 rfl ?_
  refine rb_istore (lv' := [(5, .int x2), (4, .int (x2 + x3)), (0, .int x0), (1, .ref x1), (2, .int x2), (3, .int x3)]) C dJ7_signedHashCode_6 (by decide) rfl ?_
  have L_l8_1 : ∀ (k_l8_1 : Nat) (y0_l8_1 : Int32) (y5_l8_1 : Int32), f_J7_signedHashCode_l8_1 Ev x1 x2 x3 h k_l8_1 y0_l8_1 y5_l8_1 = some r → Wa Ev X (rm_J7_signedHashCode) 6 h n 0 0 (rb_MQ Ev X (rm_J7_signedHashCode) (pXi .int r h n)) 8 [(0, .int y0_l8_1), (1, .ref x1), (2, .int x2), (3, .int x3), (4, .int (x2 + x3)), (5, .int y5_l8_1)] [] := by
    intro k_l8_1
    induction k_l8_1 with
    | zero => intro y0_l8_1 y5_l8_1 hf; cases hf
    | succ k_l8_1 ih_l8_1 =>
      intro y0_l8_1 y5_l8_1 hf
      rw [f_J7_signedHashCode_l8_1] at hf
      refine rb_iload C dJ7_signedHashCode_8 5 rfl ?_
      refine rb_iload C dJ7_signedHashCode_10 4 rfl ?_
      refine rb_icmp_ge (tgt := 35) C dJ7_signedHashCode_12 (by decide) (fun c_2 => ?_) (fun c_2 => ?_)
      · have hf := (if_pos c_2).symm.trans hf
        refine rb_iload_n C dJ7_signedHashCode_35 rfl 0 rfl ?_
        cases hf
        exact rb_iret C rfl rfl (Nat.zero_le _) (Nat.zero_le _) dJ7_signedHashCode_36 ⟨rfl, rfl, rfl, rfl⟩
      · have hf := (if_neg c_2).symm.trans hf
        refine rb_bipush (v := 31) C dJ7_signedHashCode_15 rfl ?_
        refine rb_iload_n C dJ7_signedHashCode_17 rfl 0 rfl ?_
        refine rb_imul C dJ7_signedHashCode_18 ?_
        refine rb_aload_n C dJ7_signedHashCode_19 rfl 1 rfl ?_
        refine rb_iload C dJ7_signedHashCode_20 5 rfl ?_
        obtain ⟨v_3, e_4, hf⟩ := rb_bd hf
        refine rb_hbl C e_4 dJ7_signedHashCode_22 ?_
        refine rb_sipush (v := 255) C dJ7_signedHashCode_23 rfl ?_
        refine rb_iand C dJ7_signedHashCode_26 ?_
        refine rb_iadd C dJ7_signedHashCode_27 ?_
        refine rb_istore_n (lv' := [(0, .int ((31 * y0_l8_1) + (v_3 &&& 255))), (1, .ref x1), (2, .int x2), (3, .int x3), (4, .int (x2 + x3)), (5, .int y5_l8_1)]) C dJ7_signedHashCode_28 rfl (by decide) rfl ?_
        refine rb_iinc (v := (y5_l8_1 + 1)) (lv' := [(5, .int (y5_l8_1 + 1)), (0, .int ((31 * y0_l8_1) + (v_3 &&& 255))), (1, .ref x1), (2, .int x2), (3, .int x3), (4, .int (x2 + x3))]) C dJ7_signedHashCode_29 (k := 5) rfl rfl (by decide) rfl ?_
        refine rb_goto (tgt := 8) C dJ7_signedHashCode_32 (by decide) ?_
        refine rb_sub [1, 2, 3, 4, 5, 0] rfl ?_
        exact ih_l8_1 ((31 * y0_l8_1) + (v_3 &&& 255)) (y5_l8_1 + 1) hf
  refine rb_sub [2, 3, 4, 5, 1, 0] rfl ?_
  exact L_l8_1 4096 x0 x2 hf
def f_J7_hashCode_2_l8_1 (Ev : rb_E) (x1 : Nat) (x2 : Int32) (x3 : Int32) (h : AH) : Nat → Int32 → Int32 → Option Int32
  | 0, _, _ => none
  | k_l8_1 + 1, y0_l8_1, y5_l8_1 => (if (x2 + x3) ≤ y5_l8_1 then (some y0_l8_1) else ((hp_bl Ev h x1 y5_l8_1).bind fun v_3 => ((f_J7_hashCode_2_l8_1 Ev x1 x2 x3 h k_l8_1) ((31 * y0_l8_1) + v_3) (y5_l8_1 + 1))))
def f_J7_hashCode_2 (Ev : rb_E) (h : AH) (x0 : Int32) (x1 : Nat) (x2 : Int32) (x3 : Int32) : Option Int32 := (f_J7_hashCode_2_l8_1 Ev x1 x2 x3 h 4096 x0 x2)
abbrev rm_J7_hashCode_2 : Room := { frames := 0, cells := 0, slots := 0, locals := 0 }
set_option maxHeartbeats 4000000 in
theorem ct_J7_hashCode_2 (Ev : rb_E) (h : AH) (n : Nat) (x0 : Int32) (x1 : Nat) (x2 : Int32) (x3 : Int32) (r : Int32) (hf : f_J7_hashCode_2 Ev h x0 x1 x2 x3 = some r) : Ct Ev yJ7_hashCode_2 (ws_ yJ7_hashCode_2 cJ7_hashCode_2 6 (some .int)) (rm_J7_hashCode_2) [.int x0, .ref x1, .int x2, .int x3] h n (pXi .int r h n) := by
  rw [f_J7_hashCode_2] at hf
  refine Ct.of rfl (Nat.le_of_ble_eq_true rfl) fun X C hnm => ?_
  have C : Cx Ev X RJ7 cJ7_hashCode_2 6 (some .int) [] := C
  show Wa Ev X (rm_J7_hashCode_2) 6 h n 0 0 (rb_MQ Ev X (rm_J7_hashCode_2) (pXi .int r h n)) 0 [(0, .int x0), (1, .ref x1), (2, .int x2), (3, .int x3)] []
  refine rb_iload_n C dJ7_hashCode_2_0 rfl 2 rfl ?_
  refine rb_iload_n C dJ7_hashCode_2_1 rfl 3 rfl ?_
  refine rb_iadd C dJ7_hashCode_2_2 ?_
  refine rb_istore (lv' := [(4, .int (x2 + x3)), (0, .int x0), (1, .ref x1), (2, .int x2), (3, .int x3)]) C dJ7_hashCode_2_3 (by decide) rfl ?_
  refine rb_iload_n C dJ7_hashCode_2_5 rfl 3 rfl ?_
  refine rb_istore (lv' := [(5, .int x2), (4, .int (x2 + x3)), (0, .int x0), (1, .ref x1), (2, .int x2), (3, .int x3)]) C dJ7_hashCode_2_6 (by decide) rfl ?_
  have L_l8_1 : ∀ (k_l8_1 : Nat) (y0_l8_1 : Int32) (y5_l8_1 : Int32), f_J7_hashCode_2_l8_1 Ev x1 x2 x3 h k_l8_1 y0_l8_1 y5_l8_1 = some r → Wa Ev X (rm_J7_hashCode_2) 6 h n 0 0 (rb_MQ Ev X (rm_J7_hashCode_2) (pXi .int r h n)) 8 [(0, .int y0_l8_1), (1, .ref x1), (2, .int x2), (3, .int x3), (4, .int (x2 + x3)), (5, .int y5_l8_1)] [] := by
    intro k_l8_1
    induction k_l8_1 with
    | zero => intro y0_l8_1 y5_l8_1 hf; cases hf
    | succ k_l8_1 ih_l8_1 =>
      intro y0_l8_1 y5_l8_1 hf
      rw [f_J7_hashCode_2_l8_1] at hf
      refine rb_iload C dJ7_hashCode_2_8 5 rfl ?_
      refine rb_iload C dJ7_hashCode_2_10 4 rfl ?_
      refine rb_icmp_ge (tgt := 31) C dJ7_hashCode_2_12 (by decide) (fun c_2 => ?_) (fun c_2 => ?_)
      · have hf := (if_pos c_2).symm.trans hf
        refine rb_iload_n C dJ7_hashCode_2_31 rfl 0 rfl ?_
        cases hf
        exact rb_iret C rfl rfl (Nat.zero_le _) (Nat.zero_le _) dJ7_hashCode_2_32 ⟨rfl, rfl, rfl, rfl⟩
      · have hf := (if_neg c_2).symm.trans hf
        refine rb_bipush (v := 31) C dJ7_hashCode_2_15 rfl ?_
        refine rb_iload_n C dJ7_hashCode_2_17 rfl 0 rfl ?_
        refine rb_imul C dJ7_hashCode_2_18 ?_
        refine rb_aload_n C dJ7_hashCode_2_19 rfl 1 rfl ?_
        refine rb_iload C dJ7_hashCode_2_20 5 rfl ?_
        obtain ⟨v_3, e_4, hf⟩ := rb_bd hf
        refine rb_hbl C e_4 dJ7_hashCode_2_22 ?_
        refine rb_iadd C dJ7_hashCode_2_23 ?_
        refine rb_istore_n (lv' := [(0, .int ((31 * y0_l8_1) + v_3)), (1, .ref x1), (2, .int x2), (3, .int x3), (4, .int (x2 + x3)), (5, .int y5_l8_1)]) C dJ7_hashCode_2_24 rfl (by decide) rfl ?_
        refine rb_iinc (v := (y5_l8_1 + 1)) (lv' := [(5, .int (y5_l8_1 + 1)), (0, .int ((31 * y0_l8_1) + v_3)), (1, .ref x1), (2, .int x2), (3, .int x3), (4, .int (x2 + x3))]) C dJ7_hashCode_2_25 (k := 5) rfl rfl (by decide) rfl ?_
        refine rb_goto (tgt := 8) C dJ7_hashCode_2_28 (by decide) ?_
        refine rb_sub [1, 2, 3, 4, 5, 0] rfl ?_
        exact ih_l8_1 ((31 * y0_l8_1) + v_3) (y5_l8_1 + 1) hf
  refine rb_sub [2, 3, 4, 5, 1, 0] rfl ?_
  exact L_l8_1 4096 x0 x2 hf
def f_J7_hashCode_4_l8_1 (Ev : rb_E) (x1 : Nat) (x2 : Int32) (x3 : Int32) (h : AH) : Nat → Int32 → Int32 → Option Int32
  | 0, _, _ => none
  | k_l8_1 + 1, y0_l8_1, y5_l8_1 => (if (x2 + x3) ≤ y5_l8_1 then (some y0_l8_1) else ((hp_il Ev h x1 y5_l8_1).bind fun v_3 => ((f_J7_hashCode_4_l8_1 Ev x1 x2 x3 h k_l8_1) ((31 * y0_l8_1) + v_3) (y5_l8_1 + 1))))
def f_J7_hashCode_4 (Ev : rb_E) (h : AH) (x0 : Int32) (x1 : Nat) (x2 : Int32) (x3 : Int32) : Option Int32 := (f_J7_hashCode_4_l8_1 Ev x1 x2 x3 h 4096 x0 x2)
abbrev rm_J7_hashCode_4 : Room := { frames := 0, cells := 0, slots := 0, locals := 0 }
set_option maxHeartbeats 4000000 in
theorem ct_J7_hashCode_4 (Ev : rb_E) (h : AH) (n : Nat) (x0 : Int32) (x1 : Nat) (x2 : Int32) (x3 : Int32) (r : Int32) (hf : f_J7_hashCode_4 Ev h x0 x1 x2 x3 = some r) : Ct Ev yJ7_hashCode_4 (ws_ yJ7_hashCode_4 cJ7_hashCode_4 6 (some .int)) (rm_J7_hashCode_4) [.int x0, .ref x1, .int x2, .int x3] h n (pXi .int r h n) := by
  rw [f_J7_hashCode_4] at hf
  refine Ct.of rfl (Nat.le_of_ble_eq_true rfl) fun X C hnm => ?_
  have C : Cx Ev X RJ7 cJ7_hashCode_4 6 (some .int) [] := C
  show Wa Ev X (rm_J7_hashCode_4) 6 h n 0 0 (rb_MQ Ev X (rm_J7_hashCode_4) (pXi .int r h n)) 0 [(0, .int x0), (1, .ref x1), (2, .int x2), (3, .int x3)] []
  refine rb_iload_n C dJ7_hashCode_4_0 rfl 2 rfl ?_
  refine rb_iload_n C dJ7_hashCode_4_1 rfl 3 rfl ?_
  refine rb_iadd C dJ7_hashCode_4_2 ?_
  refine rb_istore (lv' := [(4, .int (x2 + x3)), (0, .int x0), (1, .ref x1), (2, .int x2), (3, .int x3)]) C dJ7_hashCode_4_3 (by decide) rfl ?_
  refine rb_iload_n C dJ7_hashCode_4_5 rfl 3 rfl ?_
  refine rb_istore (lv' := [(5, .int x2), (4, .int (x2 + x3)), (0, .int x0), (1, .ref x1), (2, .int x2), (3, .int x3)]) C dJ7_hashCode_4_6 (by decide) rfl ?_
  have L_l8_1 : ∀ (k_l8_1 : Nat) (y0_l8_1 : Int32) (y5_l8_1 : Int32), f_J7_hashCode_4_l8_1 Ev x1 x2 x3 h k_l8_1 y0_l8_1 y5_l8_1 = some r → Wa Ev X (rm_J7_hashCode_4) 6 h n 0 0 (rb_MQ Ev X (rm_J7_hashCode_4) (pXi .int r h n)) 8 [(0, .int y0_l8_1), (1, .ref x1), (2, .int x2), (3, .int x3), (4, .int (x2 + x3)), (5, .int y5_l8_1)] [] := by
    intro k_l8_1
    induction k_l8_1 with
    | zero => intro y0_l8_1 y5_l8_1 hf; cases hf
    | succ k_l8_1 ih_l8_1 =>
      intro y0_l8_1 y5_l8_1 hf
      rw [f_J7_hashCode_4_l8_1] at hf
      refine rb_iload C dJ7_hashCode_4_8 5 rfl ?_
      refine rb_iload C dJ7_hashCode_4_10 4 rfl ?_
      refine rb_icmp_ge (tgt := 31) C dJ7_hashCode_4_12 (by decide) (fun c_2 => ?_) (fun c_2 => ?_)
      · have hf := (if_pos c_2).symm.trans hf
        refine rb_iload_n C dJ7_hashCode_4_31 rfl 0 rfl ?_
        cases hf
        exact rb_iret C rfl rfl (Nat.zero_le _) (Nat.zero_le _) dJ7_hashCode_4_32 ⟨rfl, rfl, rfl, rfl⟩
      · have hf := (if_neg c_2).symm.trans hf
        refine rb_bipush (v := 31) C dJ7_hashCode_4_15 rfl ?_
        refine rb_iload_n C dJ7_hashCode_4_17 rfl 0 rfl ?_
        refine rb_imul C dJ7_hashCode_4_18 ?_
        refine rb_aload_n C dJ7_hashCode_4_19 rfl 1 rfl ?_
        refine rb_iload C dJ7_hashCode_4_20 5 rfl ?_
        obtain ⟨v_3, e_4, hf⟩ := rb_bd hf
        refine rb_hil C e_4 dJ7_hashCode_4_22 ?_
        refine rb_iadd C dJ7_hashCode_4_23 ?_
        refine rb_istore_n (lv' := [(0, .int ((31 * y0_l8_1) + v_3)), (1, .ref x1), (2, .int x2), (3, .int x3), (4, .int (x2 + x3)), (5, .int y5_l8_1)]) C dJ7_hashCode_4_24 rfl (by decide) rfl ?_
        refine rb_iinc (v := (y5_l8_1 + 1)) (lv' := [(5, .int (y5_l8_1 + 1)), (0, .int ((31 * y0_l8_1) + v_3)), (1, .ref x1), (2, .int x2), (3, .int x3), (4, .int (x2 + x3))]) C dJ7_hashCode_4_25 (k := 5) rfl rfl (by decide) rfl ?_
        refine rb_goto (tgt := 8) C dJ7_hashCode_4_28 (by decide) ?_
        refine rb_sub [1, 2, 3, 4, 5, 0] rfl ?_
        exact ih_l8_1 ((31 * y0_l8_1) + v_3) (y5_l8_1 + 1) hf
  refine rb_sub [2, 3, 4, 5, 1, 0] rfl ?_
  exact L_l8_1 4096 x0 x2 hf
def f_J7_vectorizedHashCode (Ev : rb_E) (h : AH) (x0 : Nat) (x1 : Int32) (x2 : Int32) (x3 : Int32) (x4 : Int32) : Option Int32 := (if x4 = 4 then ((hp_len Ev h x0 1).bind fun u_2 => ((f_J7_signedHashCode Ev h x3 x0 x1 x2).bind fun v_5 => (some v_5))) else (if x4 = 5 then none else (if x4 = 6 then none else (if x4 = 7 then none else (if x4 = 8 then ((hp_len Ev h x0 1).bind fun u_11 => ((f_J7_hashCode_2 Ev h x3 x0 x1 x2).bind fun v_14 => (some v_14))) else (if x4 = 9 then none else (if x4 = 10 then ((hp_len Ev h x0 0).bind fun u_18 => ((f_J7_hashCode_4 Ev h x3 x0 x1 x2).bind fun v_21 => (some v_21))) else none)))))))
abbrev rm_J7_vectorizedHashCode : Room := { frames := 1, cells := 0, slots := 0, locals := 25 }
set_option maxHeartbeats 4000000 in
theorem ct_J7_vectorizedHashCode (Ev : rb_E) (h : AH) (n : Nat) (x0 : Nat) (x1 : Int32) (x2 : Int32) (x3 : Int32) (x4 : Int32) (r : Int32) (hf : f_J7_vectorizedHashCode Ev h x0 x1 x2 x3 x4 = some r) : Ct Ev yJ7_vectorizedHashCode (ws_ yJ7_vectorizedHashCode cJ7_vectorizedHashCode 5 (some .int)) (rm_J7_vectorizedHashCode) [.ref x0, .int x1, .int x2, .int x3, .int x4] h n (pXi .int r h n) := by
  rw [f_J7_vectorizedHashCode] at hf
  refine Ct.of rfl (Nat.le_of_ble_eq_true rfl) fun X C hnm => ?_
  have C : Cx Ev X RJ7 cJ7_vectorizedHashCode 5 (some .int) [] := C
  show Wa Ev X (rm_J7_vectorizedHashCode) 5 h n 0 0 (rb_MQ Ev X (rm_J7_vectorizedHashCode) (pXi .int r h n)) 0 [(0, .ref x0), (1, .int x1), (2, .int x2), (3, .int x3), (4, .int x4)] []
  refine rb_iload C dJ7_vectorizedHashCode_0 4 rfl ?_
  by_cases c_1 : x4 = 4
  · have hf := (if_pos c_1).symm.trans hf
    refine rb_top (.int 4) (by rw [c_1]) ?_
    refine rb_tableIn (tgt := 44) C dJ7_vectorizedHashCode_2 (by decide) (by decide) (off := 42) (by decide) (by decide) ?_
    refine rb_iload_n C dJ7_vectorizedHashCode_44 rfl 3 rfl ?_
    refine rb_aload_n C dJ7_vectorizedHashCode_45 rfl 0 rfl ?_
    obtain ⟨u_2, e_3, hf⟩ := rb_bd hf
    refine rb_hcaA C 1 q555 an_b e_3 dJ7_vectorizedHashCode_46 ?_
    refine rb_iload_n C dJ7_vectorizedHashCode_49 rfl 1 rfl ?_
    refine rb_iload_n C dJ7_vectorizedHashCode_50 rfl 2 rfl ?_
    obtain ⟨v_5, e_6, hf⟩ := rb_bd hf
    refine rb_callS (As := [.int x3, .ref x0, .int x1, .int x2]) (rest := []) C mi_J7_signedHashCode ss_J7_62 (ct_J7_signedHashCode Ev h n x3 x0 x1 x2 _ e_6) rfl rfl (Nat.le_of_ble_eq_true rfl) ⟨Nat.le_of_ble_eq_true rfl, Nat.le_of_ble_eq_true rfl, (Nat.zero_le _), (Nat.zero_le _)⟩ dJ7_vectorizedHashCode_51 rb_xXi (rb_kXi fun hn_4 => (rb_w (kc := 0) (ks := 0) rfl rfl ?_))
    refine rb_goto (tgt := 157) C dJ7_vectorizedHashCode_54 (by decide) ?_
    cases hf
    exact rb_iret C rfl rfl (Nat.zero_le _) (Nat.zero_le _) dJ7_vectorizedHashCode_157 ⟨rfl, rfl, rfl, rfl⟩
  have hf := (if_neg c_1).symm.trans hf
  by_cases c_7 : x4 = 5
  · have hf := (if_pos c_7).symm.trans hf
    refine rb_top (.int 5) (by rw [c_7]) ?_
    refine rb_tableIn (tgt := 57) C dJ7_vectorizedHashCode_2 (by decide) (by decide) (off := 55) (by decide) (by decide) ?_
    refine rb_aload_n C dJ7_vectorizedHashCode_57 rfl 0 rfl ?_
    cases hf
  have hf := (if_neg c_7).symm.trans hf
  by_cases c_8 : x4 = 6
  · have hf := (if_pos c_8).symm.trans hf
    refine rb_top (.int 6) (by rw [c_8]) ?_
    refine rb_tableIn (tgt := 129) C dJ7_vectorizedHashCode_2 (by decide) (by decide) (off := 127) (by decide) (by decide) ?_
    cases hf
  have hf := (if_neg c_8).symm.trans hf
  by_cases c_9 : x4 = 7
  · have hf := (if_pos c_9).symm.trans hf
    refine rb_top (.int 7) (by rw [c_9]) ?_
    refine rb_tableIn (tgt := 129) C dJ7_vectorizedHashCode_2 (by decide) (by decide) (off := 127) (by decide) (by decide) ?_
    cases hf
  have hf := (if_neg c_9).symm.trans hf
  by_cases c_10 : x4 = 8
  · have hf := (if_pos c_10).symm.trans hf
    refine rb_top (.int 8) (by rw [c_10]) ?_
    refine rb_tableIn (tgt := 90) C dJ7_vectorizedHashCode_2 (by decide) (by decide) (off := 88) (by decide) (by decide) ?_
    refine rb_iload_n C dJ7_vectorizedHashCode_90 rfl 3 rfl ?_
    refine rb_aload_n C dJ7_vectorizedHashCode_91 rfl 0 rfl ?_
    obtain ⟨u_11, e_12, hf⟩ := rb_bd hf
    refine rb_hcaA C 1 q555 an_b e_12 dJ7_vectorizedHashCode_92 ?_
    refine rb_iload_n C dJ7_vectorizedHashCode_95 rfl 1 rfl ?_
    refine rb_iload_n C dJ7_vectorizedHashCode_96 rfl 2 rfl ?_
    obtain ⟨v_14, e_15, hf⟩ := rb_bd hf
    refine rb_callS (As := [.int x3, .ref x0, .int x1, .int x2]) (rest := []) C mi_J7_hashCode_2 ss_J7_75 (ct_J7_hashCode_2 Ev h n x3 x0 x1 x2 _ e_15) rfl rfl (Nat.le_of_ble_eq_true rfl) ⟨Nat.le_of_ble_eq_true rfl, Nat.le_of_ble_eq_true rfl, (Nat.zero_le _), (Nat.zero_le _)⟩ dJ7_vectorizedHashCode_97 rb_xXi (rb_kXi fun hn_13 => (rb_w (kc := 0) (ks := 0) rfl rfl ?_))
    refine rb_goto (tgt := 157) C dJ7_vectorizedHashCode_100 (by decide) ?_
    cases hf
    exact rb_iret C rfl rfl (Nat.zero_le _) (Nat.zero_le _) dJ7_vectorizedHashCode_157 ⟨rfl, rfl, rfl, rfl⟩
  have hf := (if_neg c_10).symm.trans hf
  by_cases c_16 : x4 = 9
  · have hf := (if_pos c_16).symm.trans hf
    refine rb_top (.int 9) (by rw [c_16]) ?_
    refine rb_tableIn (tgt := 103) C dJ7_vectorizedHashCode_2 (by decide) (by decide) (off := 101) (by decide) (by decide) ?_
    refine rb_iload_n C dJ7_vectorizedHashCode_103 rfl 3 rfl ?_
    refine rb_aload_n C dJ7_vectorizedHashCode_104 rfl 0 rfl ?_
    cases hf
  have hf := (if_neg c_16).symm.trans hf
  by_cases c_17 : x4 = 10
  · have hf := (if_pos c_17).symm.trans hf
    refine rb_top (.int 10) (by rw [c_17]) ?_
    refine rb_tableIn (tgt := 116) C dJ7_vectorizedHashCode_2 (by decide) (by decide) (off := 114) (by decide) (by decide) ?_
    refine rb_iload_n C dJ7_vectorizedHashCode_116 rfl 3 rfl ?_
    refine rb_aload_n C dJ7_vectorizedHashCode_117 rfl 0 rfl ?_
    obtain ⟨u_18, e_19, hf⟩ := rb_bd hf
    refine rb_hcaA C 0 q586 an_i e_19 dJ7_vectorizedHashCode_118 ?_
    refine rb_iload_n C dJ7_vectorizedHashCode_121 rfl 1 rfl ?_
    refine rb_iload_n C dJ7_vectorizedHashCode_122 rfl 2 rfl ?_
    obtain ⟨v_21, e_22, hf⟩ := rb_bd hf
    refine rb_callS (As := [.int x3, .ref x0, .int x1, .int x2]) (rest := []) C mi_J7_hashCode_4 ss_J7_84 (ct_J7_hashCode_4 Ev h n x3 x0 x1 x2 _ e_22) rfl rfl (Nat.le_of_ble_eq_true rfl) ⟨Nat.le_of_ble_eq_true rfl, Nat.le_of_ble_eq_true rfl, (Nat.zero_le _), (Nat.zero_le _)⟩ dJ7_vectorizedHashCode_123 rb_xXi (rb_kXi fun hn_20 => (rb_w (kc := 0) (ks := 0) rfl rfl ?_))
    refine rb_goto (tgt := 157) C dJ7_vectorizedHashCode_126 (by decide) ?_
    cases hf
    exact rb_iret C rfl rfl (Nat.zero_le _) (Nat.zero_le _) dJ7_vectorizedHashCode_157 ⟨rfl, rfl, rfl, rfl⟩
  have hf := (if_neg c_17).symm.trans hf
  refine rb_tableOut (tgt := 129) C dJ7_vectorizedHashCode_2 (by have z0 := lv_neT (k := 4) (a := 4) c_1 (by decide); have z1 := lv_neT (k := 5) (a := 5) c_7 (by decide); have z2 := lv_neT (k := 6) (a := 6) c_8 (by decide); have z3 := lv_neT (k := 7) (a := 7) c_9 (by decide); have z4 := lv_neT (k := 8) (a := 8) c_10 (by decide); have z5 := lv_neT (k := 9) (a := 9) c_16 (by decide); have z6 := lv_neT (k := 10) (a := 10) c_17 (by decide); omega) (by decide) ?_
  cases hf
def f_J3_hashCode (Ev : rb_E) (h : AH) (x0 : Nat) : Option Int32 := ((hp_len Ev h x0 1).bind fun v_1 => (if (nI v_1) = 0 then (some 0) else (if (nI v_1) = 2 then ((f_J3_getChar Ev h x0 0).bind fun v_6 => (some v_6)) else ((hp_len Ev h x0 1).bind fun v_8 => ((f_J7_vectorizedHashCode Ev h x0 0 ((nI v_8) >>> (1 &&& 31)) 0 5).bind fun v_11 => (some v_11))))))
abbrev rm_J3_hashCode : Room := { frames := 2, cells := 0, slots := 0, locals := 49 }
set_option maxHeartbeats 4000000 in
theorem ct_J3_hashCode (Ev : rb_E) (h : AH) (n : Nat) (x0 : Nat) (r : Int32) (hf : f_J3_hashCode Ev h x0 = some r) : Ct Ev yJ3_hashCode (ws_ yJ3_hashCode cJ3_hashCode 1 (some .int)) (rm_J3_hashCode) [.ref x0] h n (pXi .int r h n) := by
  rw [f_J3_hashCode] at hf
  refine Ct.of rfl (Nat.le_of_ble_eq_true rfl) fun X C hnm => ?_
  have C : Cx Ev X RJ3 cJ3_hashCode 1 (some .int) [] := C
  show Wa Ev X (rm_J3_hashCode) 1 h n 0 0 (rb_MQ Ev X (rm_J3_hashCode) (pXi .int r h n)) 0 [(0, .ref x0)] []
  refine rb_aload_n C dJ3_hashCode_0 rfl 0 rfl ?_
  obtain ⟨v_1, e_2, hf⟩ := rb_bd hf
  refine rb_hlen (t := 1) C rfl e_2 dJ3_hashCode_1 ?_
  by_cases c_3 : (nI v_1) = 0
  · have hf := (if_pos c_3).symm.trans hf
    refine rb_top (.int 0) (by rw [c_3]) ?_
    refine rb_lookup (tgt := 28) C dJ3_hashCode_2 (by decide) (off := 26) (by decide) (by decide) ?_
    refine rb_iconst (v := 0) C dJ3_hashCode_28 rfl ?_
    refine rb_goto (tgt := 51) C dJ3_hashCode_29 (by decide) ?_
    cases hf
    exact rb_iret C rfl rfl (Nat.zero_le _) (Nat.zero_le _) dJ3_hashCode_51 ⟨rfl, rfl, rfl, rfl⟩
  have hf := (if_neg c_3).symm.trans hf
  by_cases c_4 : (nI v_1) = 2
  · have hf := (if_pos c_4).symm.trans hf
    refine rb_top (.int 2) (by rw [c_4]) ?_
    refine rb_lookup (tgt := 32) C dJ3_hashCode_2 (by decide) (off := 30) (by decide) (by decide) ?_
    refine rb_aload_n C dJ3_hashCode_32 rfl 0 rfl ?_
    refine rb_iconst (v := 0) C dJ3_hashCode_33 rfl ?_
    obtain ⟨v_6, e_7, hf⟩ := rb_bd hf
    refine rb_callS (As := [.ref x0, .int 0]) (rest := []) C mi_J3_getChar ss_J3_71 (ct_J3_getChar Ev h n x0 0 _ e_7) rfl rfl (Nat.le_of_ble_eq_true rfl) ⟨Nat.le_of_ble_eq_true rfl, Nat.le_of_ble_eq_true rfl, (Nat.zero_le _), (Nat.zero_le _)⟩ dJ3_hashCode_34 rb_xXi (rb_kXi fun hn_5 => (rb_w (kc := 0) (ks := 0) rfl rfl ?_))
    refine rb_goto (tgt := 51) C dJ3_hashCode_37 (by decide) ?_
    cases hf
    exact rb_iret C rfl rfl (Nat.zero_le _) (Nat.zero_le _) dJ3_hashCode_51 ⟨rfl, rfl, rfl, rfl⟩
  have hf := (if_neg c_4).symm.trans hf
  refine rb_lookup (tgt := 40) C dJ3_hashCode_2 (by decide) (off := 38) (by show Op.lookupswitch.offset [(0, 26), (2, 30)] 38 _ = _; rw [lv_osw (k := 0) (a := 0) c_3 (by decide), lv_osw (k := 2) (a := 2) c_4 (by decide)]; rfl) (by decide) ?_
  refine rb_aload_n C dJ3_hashCode_40 rfl 0 rfl ?_
  refine rb_iconst (v := 0) C dJ3_hashCode_41 rfl ?_
  refine rb_aload_n C dJ3_hashCode_42 rfl 0 rfl ?_
  obtain ⟨v_8, e_9, hf⟩ := rb_bd hf
  refine rb_hlen (t := 1) C rfl e_9 dJ3_hashCode_43 ?_
  refine rb_iconst (v := 1) C dJ3_hashCode_44 rfl ?_
  refine rb_ishr C dJ3_hashCode_45 ?_
  refine rb_iconst (v := 0) C dJ3_hashCode_46 rfl ?_
  refine rb_iconst (v := 5) C dJ3_hashCode_47 rfl ?_
  obtain ⟨v_11, e_12, hf⟩ := rb_bd hf
  refine rb_callS (As := [.ref x0, .int 0, .int ((nI v_8) >>> (1 &&& 31)), .int 0, .int 5]) (rest := []) C mi_J7_vectorizedHashCode ss_J3_220 (ct_J7_vectorizedHashCode Ev h n x0 0 ((nI v_8) >>> (1 &&& 31)) 0 5 _ e_12) rfl rfl (Nat.le_of_ble_eq_true rfl) ⟨Nat.le_of_ble_eq_true rfl, Nat.le_of_ble_eq_true rfl, (Nat.zero_le _), (Nat.zero_le _)⟩ dJ3_hashCode_48 rb_xXi (rb_kXi fun hn_10 => (rb_w (kc := 0) (ks := 0) rfl rfl ?_))
  cases hf
  exact rb_iret C rfl rfl (Nat.zero_le _) (Nat.zero_le _) dJ3_hashCode_51 ⟨rfl, rfl, rfl, rfl⟩
def f_J11_hashCode (Ev : rb_E) (h : AH) (x0 : Nat) : Option Int32 := ((hp_len Ev h x0 1).bind fun v_1 => (if (nI v_1) = 0 then (some 0) else (if (nI v_1) = 1 then ((hp_bl Ev h x0 0).bind fun v_5 => (some (v_5 &&& 255))) else ((hp_len Ev h x0 1).bind fun v_7 => ((f_J7_vectorizedHashCode Ev h x0 0 (nI v_7) 0 4).bind fun v_10 => (some v_10))))))
abbrev rm_J11_hashCode : Room := { frames := 2, cells := 0, slots := 0, locals := 49 }
set_option maxHeartbeats 4000000 in
theorem ct_J11_hashCode (Ev : rb_E) (h : AH) (n : Nat) (x0 : Nat) (r : Int32) (hf : f_J11_hashCode Ev h x0 = some r) : Ct Ev yJ11_hashCode (ws_ yJ11_hashCode cJ11_hashCode 1 (some .int)) (rm_J11_hashCode) [.ref x0] h n (pXi .int r h n) := by
  rw [f_J11_hashCode] at hf
  refine Ct.of rfl (Nat.le_of_ble_eq_true rfl) fun X C hnm => ?_
  have C : Cx Ev X RJ11 cJ11_hashCode 1 (some .int) [] := C
  show Wa Ev X (rm_J11_hashCode) 1 h n 0 0 (rb_MQ Ev X (rm_J11_hashCode) (pXi .int r h n)) 0 [(0, .ref x0)] []
  refine rb_aload_n C dJ11_hashCode_0 rfl 0 rfl ?_
  obtain ⟨v_1, e_2, hf⟩ := rb_bd hf
  refine rb_hlen (t := 1) C rfl e_2 dJ11_hashCode_1 ?_
  by_cases c_3 : (nI v_1) = 0
  · have hf := (if_pos c_3).symm.trans hf
    refine rb_top (.int 0) (by rw [c_3]) ?_
    refine rb_lookup (tgt := 28) C dJ11_hashCode_2 (by decide) (off := 26) (by decide) (by decide) ?_
    refine rb_iconst (v := 0) C dJ11_hashCode_28 rfl ?_
    refine rb_goto (tgt := 51) C dJ11_hashCode_29 (by decide) ?_
    cases hf
    exact rb_iret C rfl rfl (Nat.zero_le _) (Nat.zero_le _) dJ11_hashCode_51 ⟨rfl, rfl, rfl, rfl⟩
  have hf := (if_neg c_3).symm.trans hf
  by_cases c_4 : (nI v_1) = 1
  · have hf := (if_pos c_4).symm.trans hf
    refine rb_top (.int 1) (by rw [c_4]) ?_
    refine rb_lookup (tgt := 32) C dJ11_hashCode_2 (by decide) (off := 30) (by decide) (by decide) ?_
    refine rb_aload_n C dJ11_hashCode_32 rfl 0 rfl ?_
    refine rb_iconst (v := 0) C dJ11_hashCode_33 rfl ?_
    obtain ⟨v_5, e_6, hf⟩ := rb_bd hf
    refine rb_hbl C e_6 dJ11_hashCode_34 ?_
    refine rb_sipush (v := 255) C dJ11_hashCode_35 rfl ?_
    refine rb_iand C dJ11_hashCode_38 ?_
    refine rb_goto (tgt := 51) C dJ11_hashCode_39 (by decide) ?_
    cases hf
    exact rb_iret C rfl rfl (Nat.zero_le _) (Nat.zero_le _) dJ11_hashCode_51 ⟨rfl, rfl, rfl, rfl⟩
  have hf := (if_neg c_4).symm.trans hf
  refine rb_lookup (tgt := 42) C dJ11_hashCode_2 (by decide) (off := 40) (by show Op.lookupswitch.offset [(0, 26), (1, 30)] 40 _ = _; rw [lv_osw (k := 0) (a := 0) c_3 (by decide), lv_osw (k := 1) (a := 1) c_4 (by decide)]; rfl) (by decide) ?_
  refine rb_aload_n C dJ11_hashCode_42 rfl 0 rfl ?_
  refine rb_iconst (v := 0) C dJ11_hashCode_43 rfl ?_
  refine rb_aload_n C dJ11_hashCode_44 rfl 0 rfl ?_
  obtain ⟨v_7, e_8, hf⟩ := rb_bd hf
  refine rb_hlen (t := 1) C rfl e_8 dJ11_hashCode_45 ?_
  refine rb_iconst (v := 0) C dJ11_hashCode_46 rfl ?_
  refine rb_iconst (v := 4) C dJ11_hashCode_47 rfl ?_
  obtain ⟨v_10, e_11, hf⟩ := rb_bd hf
  refine rb_callS (As := [.ref x0, .int 0, .int (nI v_7), .int 0, .int 4]) (rest := []) C mi_J7_vectorizedHashCode ss_J11_84 (ct_J7_vectorizedHashCode Ev h n x0 0 (nI v_7) 0 4 _ e_11) rfl rfl (Nat.le_of_ble_eq_true rfl) ⟨Nat.le_of_ble_eq_true rfl, Nat.le_of_ble_eq_true rfl, (Nat.zero_le _), (Nat.zero_le _)⟩ dJ11_hashCode_48 rb_xXi (rb_kXi fun hn_9 => (rb_w (kc := 0) (ks := 0) rfl rfl ?_))
  cases hf
  exact rb_iret C rfl rfl (Nat.zero_le _) (Nat.zero_le _) dJ11_hashCode_51 ⟨rfl, rfl, rfl, rfl⟩
def f_J2_hashCode_j40_13 (Ev : rb_E) (o : Nat) (h : AH) (w0_j40_13 : Int32) : Option (Int32 × AH × Nat × Nat) := (if w0_j40_13 = 0 then ((hp_put h o 14 3 (.int 1)).bind fun h_17 => (some (w0_j40_13, h_17, 0, 0))) else ((hp_put h o 14 2 (.int w0_j40_13)).bind fun h_15 => (some (w0_j40_13, h_15, 0, 0))))
def f_J2_hashCode (Ev : rb_E) (h : AH) (n : Nat) (o : Nat) : Option (Int32 × AH × Nat × Nat) := ((hp_i Ev h o 14 2).bind fun v_1 => (if v_1 = 0 then ((hp_i Ev h o 14 3).bind fun v_4 => (if v_4 = 0 then ((hp_k Ev h o 14).bind fun u_7 => ((f_J2_isLatin1 Ev h o).bind fun v_10 => (if v_10 = 0 then ((hp_p Ev h o 14 0).bind fun v_19 => ((f_J3_hashCode Ev h v_19).bind fun v_22 => (f_J2_hashCode_j40_13 Ev o h v_22))) else ((hp_p Ev h o 14 0).bind fun v_24 => ((f_J11_hashCode Ev h v_24).bind fun v_27 => (f_J2_hashCode_j40_13 Ev o h v_27)))))) else (some (v_1, h, 0, 0)))) else (some (v_1, h, 0, 0))))
abbrev rm_J2_hashCode (k s : Nat) : Room := { frames := 3, cells := k, slots := s, locals := 69 }
set_option maxHeartbeats 4000000 in
theorem ct_J2_hashCode (Ev : rb_E) (h : AH) (n : Nat) (o : Nat) (r : Int32) (h' : AH) (k s : Nat) (hf : f_J2_hashCode Ev h n o = some (r, h', k, s)) : Ct Ev yJ2_hashCode (ws_ yJ2_hashCode cJ2_hashCode 2 (some .int)) (rm_J2_hashCode k s) [.ref o] h n (pXi .int r h' (n + k)) := by
  rw [f_J2_hashCode] at hf
  refine Ct.of rfl (Nat.le_of_ble_eq_true rfl) fun X C hnm => ?_
  have C : Cx Ev X RJ2 cJ2_hashCode 2 (some .int) [] := C
  show Wa Ev X (rm_J2_hashCode k s) 2 h n 0 0 (rb_MQ Ev X (rm_J2_hashCode k s) (pXi .int r h' (n + k))) 0 [(0, .ref o)] []
  have hb : Bd (n + k) k s n 0 0 k s := ⟨rfl, Nat.le_of_eq (Nat.zero_add _), Nat.le_of_eq (Nat.zero_add _)⟩
  refine rb_aload_n C dJ2_hashCode_0 rfl 0 rfl ?_
  obtain ⟨v_1, e_2, hf⟩ := rb_bd hf
  refine rb_hI C fl_J2_19_J2 e_2 dJ2_hashCode_1 ?_
  refine rb_istore_n (lv' := [(1, .int v_1), (0, .ref o)]) C dJ2_hashCode_4 rfl (by decide) rfl ?_
  refine rb_iload_n C dJ2_hashCode_5 rfl 0 rfl ?_
  refine rb_if_ne (tgt := 58) C dJ2_hashCode_6 (by decide) (fun c_3 => ?_) (fun c_3 => ?_)
  · have hf := (if_neg c_3).symm.trans hf
    refine rb_iload_n C dJ2_hashCode_58 rfl 0 rfl ?_
    cases hf
    exact rb_iret C rfl rfl hb.e.2.1 hb.e.2.2 dJ2_hashCode_59 ⟨rfl, rfl, hb.e.1, rfl⟩
  · have hf := (if_pos c_3).symm.trans hf
    refine rb_aload_n C dJ2_hashCode_9 rfl 1 rfl ?_
    obtain ⟨v_4, e_5, hf⟩ := rb_bd hf
    refine rb_hI C fl_J2_23_J2 e_5 dJ2_hashCode_10 ?_
    refine rb_if_ne (tgt := 58) C dJ2_hashCode_13 (by decide) (fun c_6 => ?_) (fun c_6 => ?_)
    · have hf := (if_neg c_6).symm.trans hf
      refine rb_iload_n C dJ2_hashCode_58 rfl 0 rfl ?_
      cases hf
      exact rb_iret C rfl rfl hb.e.2.1 hb.e.2.2 dJ2_hashCode_59 ⟨rfl, rfl, hb.e.1, rfl⟩
    · have hf := (if_pos c_6).symm.trans hf
      refine rb_aload_n C dJ2_hashCode_16 rfl 1 rfl ?_
      obtain ⟨u_7, e_8, hf⟩ := rb_bd hf
      obtain ⟨v_10, e_11, hf⟩ := rb_bd hf
      refine rb_callV (As := []) (rest := []) C mi_J2_isLatin1 sv_J2_492 (hp_k_isC C.pf e_8 ck_J2) (ct_J2_isLatin1 Ev h n o _ e_11) rfl rfl (Nat.le_of_ble_eq_true rfl) ⟨Nat.le_of_ble_eq_true rfl, Nat.le_of_ble_eq_true rfl, hb.c0, hb.s0⟩ dJ2_hashCode_17 rb_xXi (rb_kXi fun hn_9 => (rb_w (kc := 0) (ks := 0) rfl rfl ?_))
      have J_j40_13 : ∀ (w0_j40_13 : Int32) (kc_j40_13 ks_j40_13 a_ b_ : Nat), f_J2_hashCode_j40_13 Ev o h w0_j40_13 = some (r, h', a_, b_) → Bd (n + k) k s n kc_j40_13 ks_j40_13 a_ b_ → Wa Ev X (rm_J2_hashCode k s) 2 h n kc_j40_13 ks_j40_13 (rb_MQ Ev X (rm_J2_hashCode k s) (pXi .int r h' (n + k))) 40 [(0, .ref o), (1, .int v_1)] [.int w0_j40_13] := by
        intro w0_j40_13 kc_j40_13 ks_j40_13 a_ b_ hf hb
        rw [f_J2_hashCode_j40_13] at hf
        refine rb_istore_n (lv' := [(1, .int w0_j40_13), (0, .ref o)]) C dJ2_hashCode_40 rfl (by decide) rfl ?_
        refine rb_iload_n C dJ2_hashCode_41 rfl 0 rfl ?_
        refine rb_if_ne (tgt := 53) C dJ2_hashCode_42 (by decide) (fun c_14 => ?_) (fun c_14 => ?_)
        · have hf := (if_neg c_14).symm.trans hf
          refine rb_aload_n C dJ2_hashCode_53 rfl 1 rfl ?_
          refine rb_iload_n C dJ2_hashCode_54 rfl 0 rfl ?_
          obtain ⟨h_15, e_16, hf⟩ := rb_bd hf
          refine rb_hput C fw_J2_19_J2 e_16 rfl rfl dJ2_hashCode_55 ?_
          refine rb_iload_n C dJ2_hashCode_58 rfl 0 rfl ?_
          cases hf
          exact rb_iret C rfl rfl hb.e.2.1 hb.e.2.2 dJ2_hashCode_59 ⟨rfl, rfl, hb.e.1, rfl⟩
        · have hf := (if_pos c_14).symm.trans hf
          refine rb_aload_n C dJ2_hashCode_45 rfl 1 rfl ?_
          refine rb_iconst (v := 1) C dJ2_hashCode_46 rfl ?_
          obtain ⟨h_17, e_18, hf⟩ := rb_bd hf
          refine rb_hput C fw_J2_23_J2 e_18 rfl rfl dJ2_hashCode_47 ?_
          refine rb_goto (tgt := 58) C dJ2_hashCode_50 (by decide) ?_
          refine rb_iload_n C dJ2_hashCode_58 rfl 0 rfl ?_
          cases hf
          exact rb_iret C rfl rfl hb.e.2.1 hb.e.2.2 dJ2_hashCode_59 ⟨rfl, rfl, hb.e.1, rfl⟩
      refine rb_if_eq (tgt := 33) C dJ2_hashCode_20 (by decide) (fun c_12 => ?_) (fun c_12 => ?_)
      · have hf := (if_pos c_12).symm.trans hf
        refine rb_aload_n C dJ2_hashCode_33 rfl 1 rfl ?_
        obtain ⟨v_19, e_20, hf⟩ := rb_bd hf
        refine rb_hP C fl_J2_9_J2 e_20 dJ2_hashCode_34 ?_
        obtain ⟨v_22, e_23, hf⟩ := rb_bd hf
        refine rb_callS (As := [.ref v_19]) (rest := []) C mi_J3_hashCode ss_J2_632 (ct_J3_hashCode Ev h n v_19 _ e_23) rfl rfl (Nat.le_of_ble_eq_true rfl) ⟨Nat.le_of_ble_eq_true rfl, Nat.le_of_ble_eq_true rfl, hb.c0, hb.s0⟩ dJ2_hashCode_37 rb_xXi (rb_kXi fun hn_21 => (rb_w (kc := 0) (ks := 0) rfl rfl ?_))
        refine rb_sub [1, 0] rfl ?_
        exact J_j40_13 v_22  _ _ _ _ hf hb
      · have hf := (if_neg c_12).symm.trans hf
        refine rb_aload_n C dJ2_hashCode_23 rfl 1 rfl ?_
        obtain ⟨v_24, e_25, hf⟩ := rb_bd hf
        refine rb_hP C fl_J2_9_J2 e_25 dJ2_hashCode_24 ?_
        obtain ⟨v_27, e_28, hf⟩ := rb_bd hf
        refine rb_callS (As := [.ref v_24]) (rest := []) C mi_J11_hashCode ss_J2_628 (ct_J11_hashCode Ev h n v_24 _ e_28) rfl rfl (Nat.le_of_ble_eq_true rfl) ⟨Nat.le_of_ble_eq_true rfl, Nat.le_of_ble_eq_true rfl, hb.c0, hb.s0⟩ dJ2_hashCode_27 rb_xXi (rb_kXi fun hn_26 => (rb_w (kc := 0) (ks := 0) rfl rfl ?_))
        refine rb_goto (tgt := 40) C dJ2_hashCode_30 (by decide) ?_
        refine rb_sub [1, 0] rfl ?_
        exact J_j40_13 v_27  _ _ _ _ hf hb
def f_J11_equals_l9_6 (Ev : rb_E) (x0 : Nat) (x1 : Nat) (h : AH) : Nat → Int32 → Option Int32
  | 0, _ => none
  | k_l9_6 + 1, y2_l9_6 => ((hp_len Ev h x0 1).bind fun v_7 => (if (nI v_7) ≤ y2_l9_6 then (some 1) else ((hp_bl Ev h x0 y2_l9_6).bind fun v_10 => ((hp_bl Ev h x1 y2_l9_6).bind fun v_12 => (if v_10 = v_12 then ((f_J11_equals_l9_6 Ev x0 x1 h k_l9_6) (y2_l9_6 + 1)) else (some 0))))))
def f_J11_equals (Ev : rb_E) (h : AH) (x0 : Nat) (x1 : Nat) : Option Int32 := ((hp_len Ev h x0 1).bind fun v_1 => ((hp_len Ev h x1 1).bind fun v_3 => (if (nI v_1) = (nI v_3) then (f_J11_equals_l9_6 Ev x0 x1 h 4096 0) else (some 0))))
abbrev rm_J11_equals : Room := { frames := 0, cells := 0, slots := 0, locals := 0 }
set_option maxHeartbeats 4000000 in
theorem ct_J11_equals (Ev : rb_E) (h : AH) (n : Nat) (x0 : Nat) (x1 : Nat) (r : Int32) (hf : f_J11_equals Ev h x0 x1 = some r) : Ct Ev yJ11_equals (ws_ yJ11_equals cJ11_equals 3 (some .boolean)) (rm_J11_equals) [.ref x0, .ref x1] h n (pXi .boolean r h n) := by
  rw [f_J11_equals] at hf
  refine Ct.of rfl (Nat.le_of_ble_eq_true rfl) fun X C hnm => ?_
  have C : Cx Ev X RJ11 cJ11_equals 3 (some .boolean) [] := C
  show Wa Ev X (rm_J11_equals) 3 h n 0 0 (rb_MQ Ev X (rm_J11_equals) (pXi .boolean r h n)) 0 [(0, .ref x0), (1, .ref x1)] []
  refine rb_aload_n C dJ11_equals_0 rfl 0 rfl ?_
  obtain ⟨v_1, e_2, hf⟩ := rb_bd hf
  refine rb_hlen (t := 1) C rfl e_2 dJ11_equals_1 ?_
  refine rb_aload_n C dJ11_equals_2 rfl 1 rfl ?_
  obtain ⟨v_3, e_4, hf⟩ := rb_bd hf
  refine rb_hlen (t := 1) C rfl e_4 dJ11_equals_3 ?_
  refine rb_icmp_ne (tgt := 34) C dJ11_equals_4 (by decide) (fun c_5 => ?_) (fun c_5 => ?_)
  · have hf := (if_neg c_5).symm.trans hf
    refine rb_iconst (v := 0) C dJ11_equals_34 rfl ?_
    cases hf
    exact rb_iret C rfl rfl (Nat.zero_le _) (Nat.zero_le _) dJ11_equals_35 ⟨rfl, rfl, rfl, rfl⟩
  · have hf := (if_pos c_5).symm.trans hf
    refine rb_iconst (v := 0) C dJ11_equals_7 rfl ?_
    refine rb_istore_n (lv' := [(2, .int 0), (0, .ref x0), (1, .ref x1)]) C dJ11_equals_8 rfl (by decide) rfl ?_
    have L_l9_6 : ∀ (k_l9_6 : Nat) (y2_l9_6 : Int32), f_J11_equals_l9_6 Ev x0 x1 h k_l9_6 y2_l9_6 = some r → Wa Ev X (rm_J11_equals) 3 h n 0 0 (rb_MQ Ev X (rm_J11_equals) (pXi .boolean r h n)) 9 [(0, .ref x0), (1, .ref x1), (2, .int y2_l9_6)] [] := by
      intro k_l9_6
      induction k_l9_6 with
      | zero => intro y2_l9_6 hf; cases hf
      | succ k_l9_6 ih_l9_6 =>
        intro y2_l9_6 hf
        rw [f_J11_equals_l9_6] at hf
        refine rb_iload_n C dJ11_equals_9 rfl 2 rfl ?_
        refine rb_aload_n C dJ11_equals_10 rfl 0 rfl ?_
        obtain ⟨v_7, e_8, hf⟩ := rb_bd hf
        refine rb_hlen (t := 1) C rfl e_8 dJ11_equals_11 ?_
        refine rb_icmp_ge (tgt := 32) C dJ11_equals_12 (by decide) (fun c_9 => ?_) (fun c_9 => ?_)
        · have hf := (if_pos c_9).symm.trans hf
          refine rb_iconst (v := 1) C dJ11_equals_32 rfl ?_
          cases hf
          exact rb_iret C rfl rfl (Nat.zero_le _) (Nat.zero_le _) dJ11_equals_33 ⟨rfl, rfl, rfl, rfl⟩
        · have hf := (if_neg c_9).symm.trans hf
          refine rb_aload_n C dJ11_equals_15 rfl 0 rfl ?_
          refine rb_iload_n C dJ11_equals_16 rfl 2 rfl ?_
          obtain ⟨v_10, e_11, hf⟩ := rb_bd hf
          refine rb_hbl C e_11 dJ11_equals_17 ?_
          refine rb_aload_n C dJ11_equals_18 rfl 1 rfl ?_
          refine rb_iload_n C dJ11_equals_19 rfl 2 rfl ?_
          obtain ⟨v_12, e_13, hf⟩ := rb_bd hf
          refine rb_hbl C e_13 dJ11_equals_20 ?_
          refine rb_icmp_eq (tgt := 26) C dJ11_equals_21 (by decide) (fun c_14 => ?_) (fun c_14 => ?_)
          · have hf := (if_pos c_14).symm.trans hf
            refine rb_iinc (v := (y2_l9_6 + 1)) (lv' := [(2, .int (y2_l9_6 + 1)), (0, .ref x0), (1, .ref x1)]) C dJ11_equals_26 (k := 2) rfl rfl (by decide) rfl ?_
            refine rb_goto (tgt := 9) C dJ11_equals_29 (by decide) ?_
            refine rb_sub [1, 2, 0] rfl ?_
            exact ih_l9_6 (y2_l9_6 + 1) hf
          · have hf := (if_neg c_14).symm.trans hf
            refine rb_iconst (v := 0) C dJ11_equals_24 rfl ?_
            cases hf
            exact rb_iret C rfl rfl (Nat.zero_le _) (Nat.zero_le _) dJ11_equals_25 ⟨rfl, rfl, rfl, rfl⟩
    refine rb_sub [1, 2, 0] rfl ?_
    exact L_l9_6 4096 0 hf
def f_J2_equals (Ev : rb_E) (h : AH) (o : Nat) (x1 : Nat) : Option Int32 := (if some o = some x1 then (some 1) else ((hp_isa Ev h x1 [14] [13]).bind fun v_2 => (if v_2 = 0 then (some 0) else ((hp_ca Ev h x1 [14]).bind fun u_5 => ((hp_i Ev h o 14 1).bind fun v_7 => ((hp_i Ev h x1 14 1).bind fun v_9 => (if v_7 = v_9 then ((hp_p Ev h o 14 0).bind fun v_12 => ((hp_p Ev h x1 14 0).bind fun v_14 => ((f_J11_equals Ev h v_12 v_14).bind fun v_17 => (if v_17 = 0 then (some 0) else (some 1))))) else (some 0))))))))
abbrev rm_J2_equals : Room := { frames := 1, cells := 0, slots := 0, locals := 22 }
set_option maxHeartbeats 4000000 in
theorem ct_J2_equals (Ev : rb_E) (h : AH) (n : Nat) (o : Nat) (x1 : Nat) (r : Int32) (hf : f_J2_equals Ev h o x1 = some r) : Ct Ev yJ2_equals (ws_ yJ2_equals cJ2_equals 3 (some .boolean)) (rm_J2_equals) [.ref o, .ref x1] h n (pXi .boolean r h n) := by
  rw [f_J2_equals] at hf
  refine Ct.of rfl (Nat.le_of_ble_eq_true rfl) fun X C hnm => ?_
  have C : Cx Ev X RJ2 cJ2_equals 3 (some .boolean) [] := C
  show Wa Ev X (rm_J2_equals) 3 h n 0 0 (rb_MQ Ev X (rm_J2_equals) (pXi .boolean r h n)) 0 [(0, .ref o), (1, .ref x1)] []
  refine rb_aload_n C dJ2_equals_0 rfl 0 rfl ?_
  refine rb_aload_n C dJ2_equals_1 rfl 1 rfl ?_
  refine rb_acmp_ne (rx := some o) (ry := some x1) (tgt := 7) C dJ2_equals_2 (by decide) (fun c_1 => ?_) (fun c_1 => ?_)
  · have hf := (if_neg c_1).symm.trans hf
    refine rb_aload_n C dJ2_equals_7 rfl 1 rfl ?_
    obtain ⟨v_2, e_3, hf⟩ := rb_bd hf
    refine rb_hin C q761 okp_java_lang_String okn_java_lang_String e_3 dJ2_equals_8 ?_
    refine rb_if_eq (tgt := 54) C dJ2_equals_11 (by decide) (fun c_4 => ?_) (fun c_4 => ?_)
    · have hf := (if_pos c_4).symm.trans hf
      refine rb_iconst (v := 0) C dJ2_equals_54 rfl ?_
      cases hf
      exact rb_iret C rfl rfl (Nat.zero_le _) (Nat.zero_le _) dJ2_equals_55 ⟨rfl, rfl, rfl, rfl⟩
    · have hf := (if_neg c_4).symm.trans hf
      refine rb_aload_n C dJ2_equals_14 rfl 1 rfl ?_
      obtain ⟨u_5, e_6, hf⟩ := rb_bd hf
      refine rb_hca C q761 okp_java_lang_String e_6 dJ2_equals_15 ?_
      refine rb_astore_n (lv' := [(2, .ref x1), (0, .ref o), (1, .ref x1)]) C dJ2_equals_18 rfl (by decide) rfl ?_
      refine rb_gets (v := .int 1) C q363 q141 (C.pf.2.2.1.1) dJ2_equals_19 ?_
      refine rb_if_eq (tgt := 36) C dJ2_equals_22 (by decide) (fun c => absurd c (by decide)) (fun _ => ?_)
      refine rb_aload_n C dJ2_equals_25 rfl 1 rfl ?_
      obtain ⟨v_7, e_8, hf⟩ := rb_bd hf
      refine rb_hI C fl_J2_15_J2 e_8 dJ2_equals_26 ?_
      refine rb_aload_n C dJ2_equals_29 rfl 0 rfl ?_
      obtain ⟨v_9, e_10, hf⟩ := rb_bd hf
      refine rb_hI C fl_J2_15_J2 e_10 dJ2_equals_30 ?_
      refine rb_icmp_ne (tgt := 54) C dJ2_equals_33 (by decide) (fun c_11 => ?_) (fun c_11 => ?_)
      · have hf := (if_neg c_11).symm.trans hf
        refine rb_iconst (v := 0) C dJ2_equals_54 rfl ?_
        cases hf
        exact rb_iret C rfl rfl (Nat.zero_le _) (Nat.zero_le _) dJ2_equals_55 ⟨rfl, rfl, rfl, rfl⟩
      · have hf := (if_pos c_11).symm.trans hf
        refine rb_aload_n C dJ2_equals_36 rfl 1 rfl ?_
        obtain ⟨v_12, e_13, hf⟩ := rb_bd hf
        refine rb_hP C fl_J2_9_J2 e_13 dJ2_equals_37 ?_
        refine rb_aload_n C dJ2_equals_40 rfl 0 rfl ?_
        obtain ⟨v_14, e_15, hf⟩ := rb_bd hf
        refine rb_hP C fl_J2_9_J2 e_15 dJ2_equals_41 ?_
        obtain ⟨v_17, e_18, hf⟩ := rb_bd hf
        refine rb_callS (As := [.ref v_12, .ref v_14]) (rest := []) C mi_J11_equals ss_J2_541 (ct_J11_equals Ev h n v_12 v_14 _ e_18) rfl rfl (Nat.le_of_ble_eq_true rfl) ⟨Nat.le_of_ble_eq_true rfl, Nat.le_of_ble_eq_true rfl, (Nat.zero_le _), (Nat.zero_le _)⟩ dJ2_equals_44 rb_xXi (rb_kXi fun hn_16 => (rb_w (kc := 0) (ks := 0) rfl rfl ?_))
        refine rb_if_eq (tgt := 54) C dJ2_equals_47 (by decide) (fun c_19 => ?_) (fun c_19 => ?_)
        · have hf := (if_pos c_19).symm.trans hf
          refine rb_iconst (v := 0) C dJ2_equals_54 rfl ?_
          cases hf
          exact rb_iret C rfl rfl (Nat.zero_le _) (Nat.zero_le _) dJ2_equals_55 ⟨rfl, rfl, rfl, rfl⟩
        · have hf := (if_neg c_19).symm.trans hf
          refine rb_iconst (v := 1) C dJ2_equals_50 rfl ?_
          refine rb_goto (tgt := 55) C dJ2_equals_51 (by decide) ?_
          cases hf
          exact rb_iret C rfl rfl (Nat.zero_le _) (Nat.zero_le _) dJ2_equals_55 ⟨rfl, rfl, rfl, rfl⟩
  · have hf := (if_pos c_1).symm.trans hf
    refine rb_iconst (v := 1) C dJ2_equals_5 rfl ?_
    cases hf
    exact rb_iret C rfl rfl (Nat.zero_le _) (Nat.zero_le _) dJ2_equals_6 ⟨rfl, rfl, rfl, rfl⟩
def f_X1_inRange (x0 : Int32) (x1 : Int32) (x2 : Int32) : Int32 := (if x0 < x1 then 0 else (if x2 < x0 then 0 else 1))
abbrev rm_X1_inRange : Room := { frames := 0, cells := 0, slots := 0, locals := 0 }
set_option maxHeartbeats 4000000 in
theorem ct_X1_inRange (Ev : rb_E) (h : AH) (n : Nat) (x0 : Int32) (x1 : Int32) (x2 : Int32) (r : Int32) (hf : f_X1_inRange x0 x1 x2 = r) : Ct Ev yX1_inRange (ws_ yX1_inRange cX1_inRange 3 (some .boolean)) (rm_X1_inRange) [.int x0, .int x1, .int x2] h n (pXi .boolean r h n) := by
  rw [f_X1_inRange] at hf
  refine Ct.of rfl (Nat.le_of_ble_eq_true rfl) fun X C hnm => ?_
  have C : Cx Ev X RX1 cX1_inRange 3 (some .boolean) [] := C
  show Wa Ev X (rm_X1_inRange) 3 h n 0 0 (rb_MQ Ev X (rm_X1_inRange) (pXi .boolean r h n)) 0 [(0, .int x0), (1, .int x1), (2, .int x2)] []
  refine rb_iload_n C dX1_inRange_0 rfl 0 rfl ?_
  refine rb_iload_n C dX1_inRange_1 rfl 1 rfl ?_
  refine rb_icmp_lt (tgt := 14) C dX1_inRange_2 (by decide) (fun c_1 => ?_) (fun c_1 => ?_)
  · have hf := (if_pos c_1).symm.trans hf
    refine rb_iconst (v := 0) C dX1_inRange_14 rfl ?_
    subst hf
    exact rb_iret C rfl rfl (Nat.zero_le _) (Nat.zero_le _) dX1_inRange_15 ⟨rfl, rfl, rfl, rfl⟩
  · have hf := (if_neg c_1).symm.trans hf
    refine rb_iload_n C dX1_inRange_5 rfl 0 rfl ?_
    refine rb_iload_n C dX1_inRange_6 rfl 2 rfl ?_
    refine rb_icmp_gt (tgt := 14) C dX1_inRange_7 (by decide) (fun c_2 => ?_) (fun c_2 => ?_)
    · have hf := (if_pos c_2).symm.trans hf
      refine rb_iconst (v := 0) C dX1_inRange_14 rfl ?_
      subst hf
      exact rb_iret C rfl rfl (Nat.zero_le _) (Nat.zero_le _) dX1_inRange_15 ⟨rfl, rfl, rfl, rfl⟩
    · have hf := (if_neg c_2).symm.trans hf
      refine rb_iconst (v := 1) C dX1_inRange_10 rfl ?_
      refine rb_goto (tgt := 15) C dX1_inRange_11 (by decide) ?_
      subst hf
      exact rb_iret C rfl rfl (Nat.zero_le _) (Nat.zero_le _) dX1_inRange_15 ⟨rfl, rfl, rfl, rfl⟩
def f_X1_isOperand (x0 : Int32) : Int32 := (if (f_X1_inRange x0 48 57) = 0 then (if (f_X1_inRange x0 65 69) = 0 then 0 else 1) else 1)
abbrev rm_X1_isOperand : Room := { frames := 1, cells := 0, slots := 0, locals := 22 }
set_option maxHeartbeats 4000000 in
theorem ct_X1_isOperand (Ev : rb_E) (h : AH) (n : Nat) (x0 : Int32) (r : Int32) (hf : f_X1_isOperand x0 = r) : Ct Ev yX1_isOperand (ws_ yX1_isOperand cX1_isOperand 1 (some .boolean)) (rm_X1_isOperand) [.int x0] h n (pXi .boolean r h n) := by
  rw [f_X1_isOperand] at hf
  refine Ct.of rfl (Nat.le_of_ble_eq_true rfl) fun X C hnm => ?_
  have C : Cx Ev X RX1 cX1_isOperand 1 (some .boolean) [] := C
  show Wa Ev X (rm_X1_isOperand) 1 h n 0 0 (rb_MQ Ev X (rm_X1_isOperand) (pXi .boolean r h n)) 0 [(0, .int x0)] []
  refine rb_iload_n C dX1_isOperand_0 rfl 0 rfl ?_
  refine rb_bipush (v := 48) C dX1_isOperand_1 rfl ?_
  refine rb_bipush (v := 57) C dX1_isOperand_3 rfl ?_
  refine rb_callS (As := [.int x0, .int 48, .int 57]) (rest := []) C mi_X1_inRange ss_X1_7 (ct_X1_inRange Ev h n x0 48 57 _ rfl) rfl rfl (Nat.le_of_ble_eq_true rfl) ⟨Nat.le_of_ble_eq_true rfl, Nat.le_of_ble_eq_true rfl, (Nat.zero_le _), (Nat.zero_le _)⟩ dX1_isOperand_5 rb_xXi (rb_kXi fun hn_1 => (rb_w (kc := 0) (ks := 0) rfl rfl ?_))
  refine rb_if_ne (tgt := 22) C dX1_isOperand_8 (by decide) (fun c_2 => ?_) (fun c_2 => ?_)
  · have hf := (if_neg c_2).symm.trans hf
    refine rb_iconst (v := 1) C dX1_isOperand_22 rfl ?_
    refine rb_goto (tgt := 27) C dX1_isOperand_23 (by decide) ?_
    subst hf
    exact rb_iret C rfl rfl (Nat.zero_le _) (Nat.zero_le _) dX1_isOperand_27 ⟨rfl, rfl, rfl, rfl⟩
  · have hf := (if_pos c_2).symm.trans hf
    refine rb_iload_n C dX1_isOperand_11 rfl 0 rfl ?_
    refine rb_bipush (v := 65) C dX1_isOperand_12 rfl ?_
    refine rb_bipush (v := 69) C dX1_isOperand_14 rfl ?_
    refine rb_callS (As := [.int x0, .int 65, .int 69]) (rest := []) C mi_X1_inRange ss_X1_7 (ct_X1_inRange Ev h n x0 65 69 _ rfl) rfl rfl (Nat.le_of_ble_eq_true rfl) ⟨Nat.le_of_ble_eq_true rfl, Nat.le_of_ble_eq_true rfl, (Nat.zero_le _), (Nat.zero_le _)⟩ dX1_isOperand_16 rb_xXi (rb_kXi fun hn_3 => (rb_w (kc := 0) (ks := 0) rfl rfl ?_))
    refine rb_if_eq (tgt := 26) C dX1_isOperand_19 (by decide) (fun c_4 => ?_) (fun c_4 => ?_)
    · have hf := (if_pos c_4).symm.trans hf
      refine rb_iconst (v := 0) C dX1_isOperand_26 rfl ?_
      subst hf
      exact rb_iret C rfl rfl (Nat.zero_le _) (Nat.zero_le _) dX1_isOperand_27 ⟨rfl, rfl, rfl, rfl⟩
    · have hf := (if_neg c_4).symm.trans hf
      refine rb_iconst (v := 1) C dX1_isOperand_22 rfl ?_
      refine rb_goto (tgt := 27) C dX1_isOperand_23 (by decide) ?_
      subst hf
      exact rb_iret C rfl rfl (Nat.zero_le _) (Nat.zero_le _) dX1_isOperand_27 ⟨rfl, rfl, rfl, rfl⟩
def f_J18_isValidCodePoint (x0 : Int32) : Int32 := (if 17 ≤ (x0.toUInt32 >>> (Int32.toUInt32 16 &&& Int32.toUInt32 31)).toInt32 then 0 else 1)
abbrev rm_J18_isValidCodePoint : Room := { frames := 0, cells := 0, slots := 0, locals := 0 }
set_option maxHeartbeats 4000000 in
theorem ct_J18_isValidCodePoint (Ev : rb_E) (h : AH) (n : Nat) (x0 : Int32) (r : Int32) (hf : f_J18_isValidCodePoint x0 = r) : Ct Ev yJ18_isValidCodePoint (ws_ yJ18_isValidCodePoint cJ18_isValidCodePoint 2 (some .boolean)) (rm_J18_isValidCodePoint) [.int x0] h n (pXi .boolean r h n) := by
  rw [f_J18_isValidCodePoint] at hf
  refine Ct.of rfl (Nat.le_of_ble_eq_true rfl) fun X C hnm => ?_
  have C : Cx Ev X RJ18 cJ18_isValidCodePoint 2 (some .boolean) [] := C
  show Wa Ev X (rm_J18_isValidCodePoint) 2 h n 0 0 (rb_MQ Ev X (rm_J18_isValidCodePoint) (pXi .boolean r h n)) 0 [(0, .int x0)] []
  refine rb_iload_n C dJ18_isValidCodePoint_0 rfl 0 rfl ?_
  refine rb_bipush (v := 16) C dJ18_isValidCodePoint_1 rfl ?_
  refine rb_iushr (v := (x0.toUInt32 >>> (Int32.toUInt32 16 &&& Int32.toUInt32 31)).toInt32) C dJ18_isValidCodePoint_3 rfl ?_
  refine rb_istore_n (lv' := [(1, .int ((x0.toUInt32 >>> (Int32.toUInt32 16 &&& Int32.toUInt32 31)).toInt32)), (0, .int x0)]) C dJ18_isValidCodePoint_4 rfl (by decide) rfl ?_
  refine rb_iload_n C dJ18_isValidCodePoint_5 rfl 0 rfl ?_
  refine rb_bipush (v := 17) C dJ18_isValidCodePoint_6 rfl ?_
  refine rb_icmp_ge (tgt := 15) C dJ18_isValidCodePoint_8 (by decide) (fun c_1 => ?_) (fun c_1 => ?_)
  · have hf := (if_pos c_1).symm.trans hf
    refine rb_iconst (v := 0) C dJ18_isValidCodePoint_15 rfl ?_
    subst hf
    exact rb_iret C rfl rfl (Nat.zero_le _) (Nat.zero_le _) dJ18_isValidCodePoint_16 ⟨rfl, rfl, rfl, rfl⟩
  · have hf := (if_neg c_1).symm.trans hf
    refine rb_iconst (v := 1) C dJ18_isValidCodePoint_11 rfl ?_
    refine rb_goto (tgt := 16) C dJ18_isValidCodePoint_12 (by decide) ?_
    subst hf
    exact rb_iret C rfl rfl (Nat.zero_le _) (Nat.zero_le _) dJ18_isValidCodePoint_16 ⟨rfl, rfl, rfl, rfl⟩
def f_J18_highSurrogate (x0 : Int32) : Int32 := ((((x0.toUInt32 >>> (Int32.toUInt32 10 &&& Int32.toUInt32 31)).toInt32 + 55232).toUInt32 % 65536).toInt32)
abbrev rm_J18_highSurrogate : Room := { frames := 0, cells := 0, slots := 0, locals := 0 }
set_option maxHeartbeats 4000000 in
theorem ct_J18_highSurrogate (Ev : rb_E) (h : AH) (n : Nat) (x0 : Int32) (r : Int32) (hf : f_J18_highSurrogate x0 = r) : Ct Ev yJ18_highSurrogate (ws_ yJ18_highSurrogate cJ18_highSurrogate 1 (some .char)) (rm_J18_highSurrogate) [.int x0] h n (pXi .char r h n) := by
  rw [f_J18_highSurrogate] at hf
  refine Ct.of rfl (Nat.le_of_ble_eq_true rfl) fun X C hnm => ?_
  have C : Cx Ev X RJ18 cJ18_highSurrogate 1 (some .char) [] := C
  show Wa Ev X (rm_J18_highSurrogate) 1 h n 0 0 (rb_MQ Ev X (rm_J18_highSurrogate) (pXi .char r h n)) 0 [(0, .int x0)] []
  refine rb_iload_n C dJ18_highSurrogate_0 rfl 0 rfl ?_
  refine rb_bipush (v := 10) C dJ18_highSurrogate_1 rfl ?_
  refine rb_iushr (v := (x0.toUInt32 >>> (Int32.toUInt32 10 &&& Int32.toUInt32 31)).toInt32) C dJ18_highSurrogate_3 rfl ?_
  refine rb_ldc C q828 dJ18_highSurrogate_4 ?_
  refine rb_iadd C dJ18_highSurrogate_6 ?_
  refine rb_i2c (v := (((x0.toUInt32 >>> (Int32.toUInt32 10 &&& Int32.toUInt32 31)).toInt32 + 55232).toUInt32 % 65536).toInt32) C dJ18_highSurrogate_7 rfl ?_
  have hc_1 : narrow .char (.int (((x0.toUInt32 >>> (Int32.toUInt32 10 &&& Int32.toUInt32 31)).toInt32 + 55232).toUInt32 % 65536).toInt32) = .int (((x0.toUInt32 >>> (Int32.toUInt32 10 &&& Int32.toUInt32 31)).toInt32 + 55232).toUInt32 % 65536).toInt32 := pk_nc ((x0.toUInt32 >>> (Int32.toUInt32 10 &&& Int32.toUInt32 31)).toInt32 + 55232)
  subst hf
  exact rb_iret C rfl hc_1 (Nat.zero_le _) (Nat.zero_le _) dJ18_highSurrogate_8 ⟨rfl, rfl, rfl, hc_1⟩
def f_J18_lowSurrogate (x0 : Int32) : Int32 := ((((x0 &&& 1023) + 56320).toUInt32 % 65536).toInt32)
abbrev rm_J18_lowSurrogate : Room := { frames := 0, cells := 0, slots := 0, locals := 0 }
set_option maxHeartbeats 4000000 in
theorem ct_J18_lowSurrogate (Ev : rb_E) (h : AH) (n : Nat) (x0 : Int32) (r : Int32) (hf : f_J18_lowSurrogate x0 = r) : Ct Ev yJ18_lowSurrogate (ws_ yJ18_lowSurrogate cJ18_lowSurrogate 1 (some .char)) (rm_J18_lowSurrogate) [.int x0] h n (pXi .char r h n) := by
  rw [f_J18_lowSurrogate] at hf
  refine Ct.of rfl (Nat.le_of_ble_eq_true rfl) fun X C hnm => ?_
  have C : Cx Ev X RJ18 cJ18_lowSurrogate 1 (some .char) [] := C
  show Wa Ev X (rm_J18_lowSurrogate) 1 h n 0 0 (rb_MQ Ev X (rm_J18_lowSurrogate) (pXi .char r h n)) 0 [(0, .int x0)] []
  refine rb_iload_n C dJ18_lowSurrogate_0 rfl 0 rfl ?_
  refine rb_sipush (v := 1023) C dJ18_lowSurrogate_1 rfl ?_
  refine rb_iand C dJ18_lowSurrogate_4 ?_
  refine rb_ldc C q832 dJ18_lowSurrogate_5 ?_
  refine rb_iadd C dJ18_lowSurrogate_7 ?_
  refine rb_i2c (v := (((x0 &&& 1023) + 56320).toUInt32 % 65536).toInt32) C dJ18_lowSurrogate_8 rfl ?_
  have hc_1 : narrow .char (.int (((x0 &&& 1023) + 56320).toUInt32 % 65536).toInt32) = .int (((x0 &&& 1023) + 56320).toUInt32 % 65536).toInt32 := pk_nc ((x0 &&& 1023) + 56320)
  subst hf
  exact rb_iret C rfl hc_1 (Nat.zero_le _) (Nat.zero_le _) dJ18_lowSurrogate_9 ⟨rfl, rfl, rfl, hc_1⟩
def f_J3_indexOfSupplementary_l28_8 (Ev : rb_E) (x0 : Nat) (x1 : Int32) (x3 : Int32) (h : AH) : Nat → Int32 → Option Int32
  | 0, _ => none
  | k_l28_8 + 1, y6_l28_8 => (if (x3 - 1) ≤ y6_l28_8 then (some (-1)) else ((f_J3_getChar Ev h x0 y6_l28_8).bind fun v_11 => (if v_11 = (f_J18_highSurrogate x1) then ((f_J3_getChar Ev h x0 (y6_l28_8 + 1)).bind fun v_15 => (if v_15 = (f_J18_lowSurrogate x1) then (some y6_l28_8) else ((f_J3_indexOfSupplementary_l28_8 Ev x0 x1 x3 h k_l28_8) (y6_l28_8 + 1)))) else ((f_J3_indexOfSupplementary_l28_8 Ev x0 x1 x3 h k_l28_8) (y6_l28_8 + 1)))))
def f_J3_indexOfSupplementary (Ev : rb_E) (h : AH) (x0 : Nat) (x1 : Int32) (x2 : Int32) (x3 : Int32) : Option Int32 := (if (f_J18_isValidCodePoint x1) = 0 then (some (-1)) else ((f_J3_checkBoundsBeginEnd Ev h x2 x3 x0).bind fun v_6 => (f_J3_indexOfSupplementary_l28_8 Ev x0 x1 x3 h 4096 x2)))
abbrev rm_J3_indexOfSupplementary : Room := { frames := 3, cells := 0, slots := 0, locals := 67 }
set_option maxHeartbeats 4000000 in
theorem ct_J3_indexOfSupplementary (Ev : rb_E) (h : AH) (n : Nat) (x0 : Nat) (x1 : Int32) (x2 : Int32) (x3 : Int32) (r : Int32) (hf : f_J3_indexOfSupplementary Ev h x0 x1 x2 x3 = some r) : Ct Ev yJ3_indexOfSupplementary (ws_ yJ3_indexOfSupplementary cJ3_indexOfSupplementary 7 (some .int)) (rm_J3_indexOfSupplementary) [.ref x0, .int x1, .int x2, .int x3] h n (pXi .int r h n) := by
  rw [f_J3_indexOfSupplementary] at hf
  refine Ct.of rfl (Nat.le_of_ble_eq_true rfl) fun X C hnm => ?_
  have C : Cx Ev X RJ3 cJ3_indexOfSupplementary 7 (some .int) [] := C
  show Wa Ev X (rm_J3_indexOfSupplementary) 7 h n 0 0 (rb_MQ Ev X (rm_J3_indexOfSupplementary) (pXi .int r h n)) 0 [(0, .ref x0), (1, .int x1), (2, .int x2), (3, .int x3)] []
  refine rb_iload_n C dJ3_indexOfSupplementary_0 rfl 1 rfl ?_
  refine rb_callS (As := [.int x1]) (rest := []) C mi_J18_isValidCodePoint ss_J3_164 (ct_J18_isValidCodePoint Ev h n x1 _ rfl) rfl rfl (Nat.le_of_ble_eq_true rfl) ⟨Nat.le_of_ble_eq_true rfl, Nat.le_of_ble_eq_true rfl, (Nat.zero_le _), (Nat.zero_le _)⟩ dJ3_indexOfSupplementary_1 rb_xXi (rb_kXi fun hn_1 => (rb_w (kc := 0) (ks := 0) rfl rfl ?_))
  refine rb_if_eq (tgt := 69) C dJ3_indexOfSupplementary_4 (by decide) (fun c_2 => ?_) (fun c_2 => ?_)
  · have hf := (if_pos c_2).symm.trans hf
    refine rb_iconst (v := (-1)) C dJ3_indexOfSupplementary_69 rfl ?_
    cases hf
    exact rb_iret C rfl rfl (Nat.zero_le _) (Nat.zero_le _) dJ3_indexOfSupplementary_70 ⟨rfl, rfl, rfl, rfl⟩
  · have hf := (if_neg c_2).symm.trans hf
    refine rb_iload_n C dJ3_indexOfSupplementary_7 rfl 1 rfl ?_
    refine rb_callS (As := [.int x1]) (rest := []) C mi_J18_highSurrogate ss_J3_157 (ct_J18_highSurrogate Ev h n x1 _ rfl) rfl rfl (Nat.le_of_ble_eq_true rfl) ⟨Nat.le_of_ble_eq_true rfl, Nat.le_of_ble_eq_true rfl, (Nat.zero_le _), (Nat.zero_le _)⟩ dJ3_indexOfSupplementary_8 rb_xXi (rb_kXi fun hn_3 => (rb_w (kc := 0) (ks := 0) rfl rfl ?_))
    refine rb_istore (lv' := [(4, .int (f_J18_highSurrogate x1)), (0, .ref x0), (1, .int x1), (2, .int x2), (3, .int x3)]) C dJ3_indexOfSupplementary_11 (by decide) rfl ?_
    refine rb_iload_n C dJ3_indexOfSupplementary_13 rfl 2 rfl ?_
    refine rb_callS (As := [.int x1]) (rest := []) C mi_J18_lowSurrogate ss_J3_161 (ct_J18_lowSurrogate Ev h n x1 _ rfl) rfl rfl (Nat.le_of_ble_eq_true rfl) ⟨Nat.le_of_ble_eq_true rfl, Nat.le_of_ble_eq_true rfl, (Nat.zero_le _), (Nat.zero_le _)⟩ dJ3_indexOfSupplementary_14 rb_xXi (rb_kXi fun hn_4 => (rb_w (kc := 0) (ks := 0) rfl rfl ?_))
    refine rb_istore (lv' := [(5, .int (f_J18_lowSurrogate x1)), (4, .int (f_J18_highSurrogate x1)), (0, .ref x0), (1, .int x1), (2, .int x2), (3, .int x3)]) C dJ3_indexOfSupplementary_17 (by decide) rfl ?_
    refine rb_iload_n C dJ3_indexOfSupplementary_19 rfl 4 rfl ?_
    refine rb_iload_n C dJ3_indexOfSupplementary_20 rfl 5 rfl ?_
    refine rb_aload_n C dJ3_indexOfSupplementary_21 rfl 2 rfl ?_
    obtain ⟨v_6, e_7, hf⟩ := rb_bd hf
    refine rb_callS (As := [.int x2, .int x3, .ref x0]) (rest := []) C mi_J3_checkBoundsBeginEnd ss_J3_96 (ct_J3_checkBoundsBeginEnd Ev h n x2 x3 x0 _ e_7) rfl rfl (Nat.le_of_ble_eq_true rfl) ⟨Nat.le_of_ble_eq_true rfl, Nat.le_of_ble_eq_true rfl, (Nat.zero_le _), (Nat.zero_le _)⟩ dJ3_indexOfSupplementary_22 rb_xX (rb_kX (rb_w (kc := 0) (ks := 0) rfl rfl ?_))
    refine rb_iload_n C dJ3_indexOfSupplementary_25 rfl 4 rfl ?_
    refine rb_istore (lv' := [(6, .int x2), (5, .int (f_J18_lowSurrogate x1)), (4, .int (f_J18_highSurrogate x1)), (0, .ref x0), (1, .int x1), (2, .int x2), (3, .int x3)]) C dJ3_indexOfSupplementary_26 (by decide) rfl ?_
    have L_l28_8 : ∀ (k_l28_8 : Nat) (y6_l28_8 : Int32), f_J3_indexOfSupplementary_l28_8 Ev x0 x1 x3 h k_l28_8 y6_l28_8 = some r → Wa Ev X (rm_J3_indexOfSupplementary) 7 h n 0 0 (rb_MQ Ev X (rm_J3_indexOfSupplementary) (pXi .int r h n)) 28 [(0, .ref x0), (1, .int x1), (2, .int x2), (3, .int x3), (4, .int (f_J18_highSurrogate x1)), (5, .int (f_J18_lowSurrogate x1)), (6, .int y6_l28_8)] [] := by
      intro k_l28_8
      induction k_l28_8 with
      | zero => intro y6_l28_8 hf; cases hf
      | succ k_l28_8 ih_l28_8 =>
        intro y6_l28_8 hf
        rw [f_J3_indexOfSupplementary_l28_8] at hf
        refine rb_iload C dJ3_indexOfSupplementary_28 6 rfl ?_
        refine rb_iload_n C dJ3_indexOfSupplementary_30 rfl 3 rfl ?_
        refine rb_iconst (v := 1) C dJ3_indexOfSupplementary_31 rfl ?_
        refine rb_isub C dJ3_indexOfSupplementary_32 ?_
        refine rb_icmp_ge (tgt := 69) C dJ3_indexOfSupplementary_33 (by decide) (fun c_9 => ?_) (fun c_9 => ?_)
        · have hf := (if_pos c_9).symm.trans hf
          refine rb_iconst (v := (-1)) C dJ3_indexOfSupplementary_69 rfl ?_
          cases hf
          exact rb_iret C rfl rfl (Nat.zero_le _) (Nat.zero_le _) dJ3_indexOfSupplementary_70 ⟨rfl, rfl, rfl, rfl⟩
        · have hf := (if_neg c_9).symm.trans hf
          refine rb_aload_n C dJ3_indexOfSupplementary_36 rfl 0 rfl ?_
          refine rb_iload C dJ3_indexOfSupplementary_37 6 rfl ?_
          obtain ⟨v_11, e_12, hf⟩ := rb_bd hf
          refine rb_callS (As := [.ref x0, .int y6_l28_8]) (rest := []) C mi_J3_getChar ss_J3_71 (ct_J3_getChar Ev h n x0 y6_l28_8 _ e_12) rfl rfl (Nat.le_of_ble_eq_true rfl) ⟨Nat.le_of_ble_eq_true rfl, Nat.le_of_ble_eq_true rfl, (Nat.zero_le _), (Nat.zero_le _)⟩ dJ3_indexOfSupplementary_39 rb_xXi (rb_kXi fun hn_10 => (rb_w (kc := 0) (ks := 0) rfl rfl ?_))
          refine rb_iload C dJ3_indexOfSupplementary_42 4 rfl ?_
          refine rb_icmp_ne (tgt := 63) C dJ3_indexOfSupplementary_44 (by decide) (fun c_13 => ?_) (fun c_13 => ?_)
          · have hf := (if_neg c_13).symm.trans hf
            refine rb_iinc (v := (y6_l28_8 + 1)) (lv' := [(6, .int (y6_l28_8 + 1)), (0, .ref x0), (1, .int x1), (2, .int x2), (3, .int x3), (4, .int (f_J18_highSurrogate x1)), (5, .int (f_J18_lowSurrogate x1))]) C dJ3_indexOfSupplementary_63 (k := 6) rfl rfl (by decide) rfl ?_
            refine rb_goto (tgt := 28) C dJ3_indexOfSupplementary_66 (by decide) ?_
            refine rb_sub [1, 2, 3, 4, 5, 6, 0] rfl ?_
            exact ih_l28_8 (y6_l28_8 + 1) hf
          · have hf := (if_pos c_13).symm.trans hf
            refine rb_aload_n C dJ3_indexOfSupplementary_47 rfl 0 rfl ?_
            refine rb_iload C dJ3_indexOfSupplementary_48 6 rfl ?_
            refine rb_iconst (v := 1) C dJ3_indexOfSupplementary_50 rfl ?_
            refine rb_iadd C dJ3_indexOfSupplementary_51 ?_
            obtain ⟨v_15, e_16, hf⟩ := rb_bd hf
            refine rb_callS (As := [.ref x0, .int (y6_l28_8 + 1)]) (rest := []) C mi_J3_getChar ss_J3_71 (ct_J3_getChar Ev h n x0 (y6_l28_8 + 1) _ e_16) rfl rfl (Nat.le_of_ble_eq_true rfl) ⟨Nat.le_of_ble_eq_true rfl, Nat.le_of_ble_eq_true rfl, (Nat.zero_le _), (Nat.zero_le _)⟩ dJ3_indexOfSupplementary_52 rb_xXi (rb_kXi fun hn_14 => (rb_w (kc := 0) (ks := 0) rfl rfl ?_))
            refine rb_iload C dJ3_indexOfSupplementary_55 5 rfl ?_
            refine rb_icmp_ne (tgt := 63) C dJ3_indexOfSupplementary_57 (by decide) (fun c_17 => ?_) (fun c_17 => ?_)
            · have hf := (if_neg c_17).symm.trans hf
              refine rb_iinc (v := (y6_l28_8 + 1)) (lv' := [(6, .int (y6_l28_8 + 1)), (0, .ref x0), (1, .int x1), (2, .int x2), (3, .int x3), (4, .int (f_J18_highSurrogate x1)), (5, .int (f_J18_lowSurrogate x1))]) C dJ3_indexOfSupplementary_63 (k := 6) rfl rfl (by decide) rfl ?_
              refine rb_goto (tgt := 28) C dJ3_indexOfSupplementary_66 (by decide) ?_
              refine rb_sub [1, 2, 3, 4, 5, 6, 0] rfl ?_
              exact ih_l28_8 (y6_l28_8 + 1) hf
            · have hf := (if_pos c_17).symm.trans hf
              refine rb_iload C dJ3_indexOfSupplementary_60 6 rfl ?_
              cases hf
              exact rb_iret C rfl rfl (Nat.zero_le _) (Nat.zero_le _) dJ3_indexOfSupplementary_62 ⟨rfl, rfl, rfl, rfl⟩
    refine rb_sub [3, 4, 5, 6, 2, 1, 0] rfl ?_
    exact L_l28_8 4096 x2 hf
def f_J3_indexOfCharUnsafe_l3_1 (Ev : rb_E) (x0 : Nat) (x1 : Int32) (x3 : Int32) (h : AH) : Nat → Int32 → Option Int32
  | 0, _ => none
  | k_l3_1 + 1, y4_l3_1 => (if x3 ≤ y4_l3_1 then (some (-1)) else ((f_J3_getChar Ev h x0 y4_l3_1).bind fun v_4 => (if v_4 = x1 then (some y4_l3_1) else ((f_J3_indexOfCharUnsafe_l3_1 Ev x0 x1 x3 h k_l3_1) (y4_l3_1 + 1)))))
def f_J3_indexOfCharUnsafe (Ev : rb_E) (h : AH) (x0 : Nat) (x1 : Int32) (x2 : Int32) (x3 : Int32) : Option Int32 := (f_J3_indexOfCharUnsafe_l3_1 Ev x0 x1 x3 h 4096 x2)
abbrev rm_J3_indexOfCharUnsafe : Room := { frames := 1, cells := 0, slots := 0, locals := 21 }
set_option maxHeartbeats 4000000 in
theorem ct_J3_indexOfCharUnsafe (Ev : rb_E) (h : AH) (n : Nat) (x0 : Nat) (x1 : Int32) (x2 : Int32) (x3 : Int32) (r : Int32) (hf : f_J3_indexOfCharUnsafe Ev h x0 x1 x2 x3 = some r) : Ct Ev yJ3_indexOfCharUnsafe (ws_ yJ3_indexOfCharUnsafe cJ3_indexOfCharUnsafe 5 (some .int)) (rm_J3_indexOfCharUnsafe) [.ref x0, .int x1, .int x2, .int x3] h n (pXi .int r h n) := by
  rw [f_J3_indexOfCharUnsafe] at hf
  refine Ct.of rfl (Nat.le_of_ble_eq_true rfl) fun X C hnm => ?_
  have C : Cx Ev X RJ3 cJ3_indexOfCharUnsafe 5 (some .int) [] := C
  show Wa Ev X (rm_J3_indexOfCharUnsafe) 5 h n 0 0 (rb_MQ Ev X (rm_J3_indexOfCharUnsafe) (pXi .int r h n)) 0 [(0, .ref x0), (1, .int x1), (2, .int x2), (3, .int x3)] []
  refine rb_iload_n C dJ3_indexOfCharUnsafe_0 rfl 2 rfl ?_
  refine rb_istore (lv' := [(4, .int x2), (0, .ref x0), (1, .int x1), (2, .int x2), (3, .int x3)]) C dJ3_indexOfCharUnsafe_1 (by decide) rfl ?_
  have L_l3_1 : ∀ (k_l3_1 : Nat) (y4_l3_1 : Int32), f_J3_indexOfCharUnsafe_l3_1 Ev x0 x1 x3 h k_l3_1 y4_l3_1 = some r → Wa Ev X (rm_J3_indexOfCharUnsafe) 5 h n 0 0 (rb_MQ Ev X (rm_J3_indexOfCharUnsafe) (pXi .int r h n)) 3 [(0, .ref x0), (1, .int x1), (2, .int x2), (3, .int x3), (4, .int y4_l3_1)] [] := by
    intro k_l3_1
    induction k_l3_1 with
    | zero => intro y4_l3_1 hf; cases hf
    | succ k_l3_1 ih_l3_1 =>
      intro y4_l3_1 hf
      rw [f_J3_indexOfCharUnsafe_l3_1] at hf
      refine rb_iload C dJ3_indexOfCharUnsafe_3 4 rfl ?_
      refine rb_iload_n C dJ3_indexOfCharUnsafe_5 rfl 3 rfl ?_
      refine rb_icmp_ge (tgt := 28) C dJ3_indexOfCharUnsafe_6 (by decide) (fun c_2 => ?_) (fun c_2 => ?_)
      · have hf := (if_pos c_2).symm.trans hf
        refine rb_iconst (v := (-1)) C dJ3_indexOfCharUnsafe_28 rfl ?_
        cases hf
        exact rb_iret C rfl rfl (Nat.zero_le _) (Nat.zero_le _) dJ3_indexOfCharUnsafe_29 ⟨rfl, rfl, rfl, rfl⟩
      · have hf := (if_neg c_2).symm.trans hf
        refine rb_aload_n C dJ3_indexOfCharUnsafe_9 rfl 0 rfl ?_
        refine rb_iload C dJ3_indexOfCharUnsafe_10 4 rfl ?_
        obtain ⟨v_4, e_5, hf⟩ := rb_bd hf
        refine rb_callS (As := [.ref x0, .int y4_l3_1]) (rest := []) C mi_J3_getChar ss_J3_71 (ct_J3_getChar Ev h n x0 y4_l3_1 _ e_5) rfl rfl (Nat.le_of_ble_eq_true rfl) ⟨Nat.le_of_ble_eq_true rfl, Nat.le_of_ble_eq_true rfl, (Nat.zero_le _), (Nat.zero_le _)⟩ dJ3_indexOfCharUnsafe_12 rb_xXi (rb_kXi fun hn_3 => (rb_w (kc := 0) (ks := 0) rfl rfl ?_))
        refine rb_iload_n C dJ3_indexOfCharUnsafe_15 rfl 1 rfl ?_
        refine rb_icmp_ne (tgt := 22) C dJ3_indexOfCharUnsafe_16 (by decide) (fun c_6 => ?_) (fun c_6 => ?_)
        · have hf := (if_neg c_6).symm.trans hf
          refine rb_iinc (v := (y4_l3_1 + 1)) (lv' := [(4, .int (y4_l3_1 + 1)), (0, .ref x0), (1, .int x1), (2, .int x2), (3, .int x3)]) C dJ3_indexOfCharUnsafe_22 (k := 4) rfl rfl (by decide) rfl ?_
          refine rb_goto (tgt := 3) C dJ3_indexOfCharUnsafe_25 (by decide) ?_
          refine rb_sub [1, 2, 3, 4, 0] rfl ?_
          exact ih_l3_1 (y4_l3_1 + 1) hf
        · have hf := (if_pos c_6).symm.trans hf
          refine rb_iload C dJ3_indexOfCharUnsafe_19 4 rfl ?_
          cases hf
          exact rb_iret C rfl rfl (Nat.zero_le _) (Nat.zero_le _) dJ3_indexOfCharUnsafe_21 ⟨rfl, rfl, rfl, rfl⟩
  refine rb_sub [1, 2, 3, 4, 0] rfl ?_
  exact L_l3_1 4096 x2 hf
def f_J3_indexOfChar (Ev : rb_E) (h : AH) (x0 : Nat) (x1 : Int32) (x2 : Int32) (x3 : Int32) : Option Int32 := ((f_J3_checkBoundsBeginEnd Ev h x2 x3 x0).bind fun v_2 => ((f_J3_indexOfCharUnsafe Ev h x0 x1 x2 x3).bind fun v_5 => (some v_5)))
abbrev rm_J3_indexOfChar : Room := { frames := 3, cells := 0, slots := 0, locals := 67 }
set_option maxHeartbeats 4000000 in
theorem ct_J3_indexOfChar (Ev : rb_E) (h : AH) (n : Nat) (x0 : Nat) (x1 : Int32) (x2 : Int32) (x3 : Int32) (r : Int32) (hf : f_J3_indexOfChar Ev h x0 x1 x2 x3 = some r) : Ct Ev yJ3_indexOfChar (ws_ yJ3_indexOfChar cJ3_indexOfChar 4 (some .int)) (rm_J3_indexOfChar) [.ref x0, .int x1, .int x2, .int x3] h n (pXi .int r h n) := by
  rw [f_J3_indexOfChar] at hf
  refine Ct.of rfl (Nat.le_of_ble_eq_true rfl) fun X C hnm => ?_
  have C : Cx Ev X RJ3 cJ3_indexOfChar 4 (some .int) [] := C
  show Wa Ev X (rm_J3_indexOfChar) 4 h n 0 0 (rb_MQ Ev X (rm_J3_indexOfChar) (pXi .int r h n)) 0 [(0, .ref x0), (1, .int x1), (2, .int x2), (3, .int x3)] []
  refine rb_iload_n C dJ3_indexOfChar_0 rfl 2 rfl ?_
  refine rb_iload_n C dJ3_indexOfChar_1 rfl 3 rfl ?_
  refine rb_aload_n C dJ3_indexOfChar_2 rfl 0 rfl ?_
  obtain ⟨v_2, e_3, hf⟩ := rb_bd hf
  refine rb_callS (As := [.int x2, .int x3, .ref x0]) (rest := []) C mi_J3_checkBoundsBeginEnd ss_J3_96 (ct_J3_checkBoundsBeginEnd Ev h n x2 x3 x0 _ e_3) rfl rfl (Nat.le_of_ble_eq_true rfl) ⟨Nat.le_of_ble_eq_true rfl, Nat.le_of_ble_eq_true rfl, (Nat.zero_le _), (Nat.zero_le _)⟩ dJ3_indexOfChar_3 rb_xX (rb_kX (rb_w (kc := 0) (ks := 0) rfl rfl ?_))
  refine rb_aload_n C dJ3_indexOfChar_6 rfl 0 rfl ?_
  refine rb_iload_n C dJ3_indexOfChar_7 rfl 1 rfl ?_
  refine rb_iload_n C dJ3_indexOfChar_8 rfl 2 rfl ?_
  refine rb_iload_n C dJ3_indexOfChar_9 rfl 3 rfl ?_
  obtain ⟨v_5, e_6, hf⟩ := rb_bd hf
  refine rb_callS (As := [.ref x0, .int x1, .int x2, .int x3]) (rest := []) C mi_J3_indexOfCharUnsafe ss_J3_244 (ct_J3_indexOfCharUnsafe Ev h n x0 x1 x2 x3 _ e_6) rfl rfl (Nat.le_of_ble_eq_true rfl) ⟨Nat.le_of_ble_eq_true rfl, Nat.le_of_ble_eq_true rfl, (Nat.zero_le _), (Nat.zero_le _)⟩ dJ3_indexOfChar_10 rb_xXi (rb_kXi fun hn_4 => (rb_w (kc := 0) (ks := 0) rfl rfl ?_))
  cases hf
  exact rb_iret C rfl rfl (Nat.zero_le _) (Nat.zero_le _) dJ3_indexOfChar_13 ⟨rfl, rfl, rfl, rfl⟩
def f_J3_indexOf (Ev : rb_E) (h : AH) (x0 : Nat) (x1 : Int32) (x2 : Int32) (x3 : Int32) : Option Int32 := ((hp_len Ev h x0 1).bind fun v_1 => (if (if x2 < 0 then 0 else x2) < (if ((nI v_1) >>> (1 &&& 31)) < x3 then ((nI v_1) >>> (1 &&& 31)) else x3) then (if 65536 ≤ x1 then ((f_J3_indexOfSupplementary Ev h x0 x1 (if x2 < 0 then 0 else x2) (if ((nI v_1) >>> (1 &&& 31)) < x3 then ((nI v_1) >>> (1 &&& 31)) else x3)).bind fun v_6 => (some v_6)) else ((f_J3_indexOfChar Ev h x0 x1 (if x2 < 0 then 0 else x2) (if ((nI v_1) >>> (1 &&& 31)) < x3 then ((nI v_1) >>> (1 &&& 31)) else x3)).bind fun v_9 => (some v_9))) else (some (-1))))
abbrev rm_J3_indexOf : Room := { frames := 4, cells := 0, slots := 0, locals := 93 }
set_option maxHeartbeats 4000000 in
theorem ct_J3_indexOf (Ev : rb_E) (h : AH) (n : Nat) (x0 : Nat) (x1 : Int32) (x2 : Int32) (x3 : Int32) (r : Int32) (hf : f_J3_indexOf Ev h x0 x1 x2 x3 = some r) : Ct Ev yJ3_indexOf (ws_ yJ3_indexOf cJ3_indexOf 4 (some .int)) (rm_J3_indexOf) [.ref x0, .int x1, .int x2, .int x3] h n (pXi .int r h n) := by
  rw [f_J3_indexOf] at hf
  refine Ct.of rfl (Nat.le_of_ble_eq_true rfl) fun X C hnm => ?_
  have C : Cx Ev X RJ3 cJ3_indexOf 4 (some .int) [] := C
  show Wa Ev X (rm_J3_indexOf) 4 h n 0 0 (rb_MQ Ev X (rm_J3_indexOf) (pXi .int r h n)) 0 [(0, .ref x0), (1, .int x1), (2, .int x2), (3, .int x3)] []
  refine rb_iload_n C dJ3_indexOf_0 rfl 2 rfl ?_
  refine rb_iconst (v := 0) C dJ3_indexOf_1 rfl ?_
  refine rb_mmax C q810 q288 q81 q289 (Nat.le_of_ble_eq_true rfl) (Nat.le_of_ble_eq_true rfl) (Nat.zero_le _) (Nat.zero_le _) dJ3_indexOf_2 ?_
  refine rb_istore_n (lv' := [(2, .int (if x2 < 0 then 0 else x2)), (0, .ref x0), (1, .int x1), (3, .int x3)]) C dJ3_indexOf_5 rfl (by decide) rfl ?_
  refine rb_iload_n C dJ3_indexOf_6 rfl 3 rfl ?_
  refine rb_aload_n C dJ3_indexOf_7 rfl 1 rfl ?_
  obtain ⟨v_1, e_2, hf⟩ := rb_bd hf
  refine rb_hlen (t := 1) C rfl e_2 dJ3_indexOf_8 ?_
  refine rb_iconst (v := 1) C dJ3_indexOf_9 rfl ?_
  refine rb_ishr C dJ3_indexOf_10 ?_
  refine rb_mmin C q811 q306 q81 q307 (Nat.le_of_ble_eq_true rfl) (Nat.le_of_ble_eq_true rfl) (Nat.zero_le _) (Nat.zero_le _) dJ3_indexOf_11 ?_
  refine rb_istore_n (lv' := [(3, .int (if ((nI v_1) >>> (1 &&& 31)) < x3 then ((nI v_1) >>> (1 &&& 31)) else x3)), (2, .int (if x2 < 0 then 0 else x2)), (0, .ref x0), (1, .int x1)]) C dJ3_indexOf_14 rfl (by decide) rfl ?_
  refine rb_iload_n C dJ3_indexOf_15 rfl 1 rfl ?_
  refine rb_iload_n C dJ3_indexOf_16 rfl 0 rfl ?_
  refine rb_icmp_lt (tgt := 22) C dJ3_indexOf_17 (by decide) (fun c_3 => ?_) (fun c_3 => ?_)
  · have hf := (if_pos c_3).symm.trans hf
    refine rb_iload_n C dJ3_indexOf_22 rfl 3 rfl ?_
    refine rb_ldc C q812 dJ3_indexOf_23 ?_
    refine rb_icmp_ge (tgt := 36) C dJ3_indexOf_25 (by decide) (fun c_4 => ?_) (fun c_4 => ?_)
    · have hf := (if_pos c_4).symm.trans hf
      refine rb_aload_n C dJ3_indexOf_36 rfl 2 rfl ?_
      refine rb_iload_n C dJ3_indexOf_37 rfl 3 rfl ?_
      refine rb_iload_n C dJ3_indexOf_38 rfl 1 rfl ?_
      refine rb_iload_n C dJ3_indexOf_39 rfl 0 rfl ?_
      obtain ⟨v_6, e_7, hf⟩ := rb_bd hf
      refine rb_callS (As := [.ref x0, .int x1, .int (if x2 < 0 then 0 else x2), .int (if ((nI v_1) >>> (1 &&& 31)) < x3 then ((nI v_1) >>> (1 &&& 31)) else x3)]) (rest := []) C mi_J3_indexOfSupplementary ss_J3_232 (ct_J3_indexOfSupplementary Ev h n x0 x1 (if x2 < 0 then 0 else x2) (if ((nI v_1) >>> (1 &&& 31)) < x3 then ((nI v_1) >>> (1 &&& 31)) else x3) _ e_7) rfl rfl (Nat.le_of_ble_eq_true rfl) ⟨Nat.le_of_ble_eq_true rfl, Nat.le_of_ble_eq_true rfl, (Nat.zero_le _), (Nat.zero_le _)⟩ dJ3_indexOf_40 rb_xXi (rb_kXi fun hn_5 => (rb_w (kc := 0) (ks := 0) rfl rfl ?_))
      cases hf
      exact rb_iret C rfl rfl (Nat.zero_le _) (Nat.zero_le _) dJ3_indexOf_43 ⟨rfl, rfl, rfl, rfl⟩
    · have hf := (if_neg c_4).symm.trans hf
      refine rb_aload_n C dJ3_indexOf_28 rfl 2 rfl ?_
      refine rb_iload_n C dJ3_indexOf_29 rfl 3 rfl ?_
      refine rb_iload_n C dJ3_indexOf_30 rfl 1 rfl ?_
      refine rb_iload_n C dJ3_indexOf_31 rfl 0 rfl ?_
      obtain ⟨v_9, e_10, hf⟩ := rb_bd hf
      refine rb_callS (As := [.ref x0, .int x1, .int (if x2 < 0 then 0 else x2), .int (if ((nI v_1) >>> (1 &&& 31)) < x3 then ((nI v_1) >>> (1 &&& 31)) else x3)]) (rest := []) C mi_J3_indexOfChar ss_J3_228 (ct_J3_indexOfChar Ev h n x0 x1 (if x2 < 0 then 0 else x2) (if ((nI v_1) >>> (1 &&& 31)) < x3 then ((nI v_1) >>> (1 &&& 31)) else x3) _ e_10) rfl rfl (Nat.le_of_ble_eq_true rfl) ⟨Nat.le_of_ble_eq_true rfl, Nat.le_of_ble_eq_true rfl, (Nat.zero_le _), (Nat.zero_le _)⟩ dJ3_indexOf_32 rb_xXi (rb_kXi fun hn_8 => (rb_w (kc := 0) (ks := 0) rfl rfl ?_))
      cases hf
      exact rb_iret C rfl rfl (Nat.zero_le _) (Nat.zero_le _) dJ3_indexOf_35 ⟨rfl, rfl, rfl, rfl⟩
  · have hf := (if_neg c_3).symm.trans hf
    refine rb_iconst (v := (-1)) C dJ3_indexOf_20 rfl ?_
    cases hf
    exact rb_iret C rfl rfl (Nat.zero_le _) (Nat.zero_le _) dJ3_indexOf_21 ⟨rfl, rfl, rfl, rfl⟩
def f_J11_canEncode_2 (x0 : Int32) : Int32 := (if x0 < 0 then 0 else (if 255 < x0 then 0 else 1))
abbrev rm_J11_canEncode_2 : Room := { frames := 0, cells := 0, slots := 0, locals := 0 }
set_option maxHeartbeats 4000000 in
theorem ct_J11_canEncode_2 (Ev : rb_E) (h : AH) (n : Nat) (x0 : Int32) (r : Int32) (hf : f_J11_canEncode_2 x0 = r) : Ct Ev yJ11_canEncode_2 (ws_ yJ11_canEncode_2 cJ11_canEncode_2 1 (some .boolean)) (rm_J11_canEncode_2) [.int x0] h n (pXi .boolean r h n) := by
  rw [f_J11_canEncode_2] at hf
  refine Ct.of rfl (Nat.le_of_ble_eq_true rfl) fun X C hnm => ?_
  have C : Cx Ev X RJ11 cJ11_canEncode_2 1 (some .boolean) [] := C
  show Wa Ev X (rm_J11_canEncode_2) 1 h n 0 0 (rb_MQ Ev X (rm_J11_canEncode_2) (pXi .boolean r h n)) 0 [(0, .int x0)] []
  refine rb_iload_n C dJ11_canEncode_2_0 rfl 0 rfl ?_
  refine rb_if_lt (tgt := 15) C dJ11_canEncode_2_1 (by decide) (fun c_1 => ?_) (fun c_1 => ?_)
  · have hf := (if_pos c_1).symm.trans hf
    refine rb_iconst (v := 0) C dJ11_canEncode_2_15 rfl ?_
    subst hf
    exact rb_iret C rfl rfl (Nat.zero_le _) (Nat.zero_le _) dJ11_canEncode_2_16 ⟨rfl, rfl, rfl, rfl⟩
  · have hf := (if_neg c_1).symm.trans hf
    refine rb_iload_n C dJ11_canEncode_2_4 rfl 0 rfl ?_
    refine rb_sipush (v := 255) C dJ11_canEncode_2_5 rfl ?_
    refine rb_icmp_gt (tgt := 15) C dJ11_canEncode_2_8 (by decide) (fun c_2 => ?_) (fun c_2 => ?_)
    · have hf := (if_pos c_2).symm.trans hf
      refine rb_iconst (v := 0) C dJ11_canEncode_2_15 rfl ?_
      subst hf
      exact rb_iret C rfl rfl (Nat.zero_le _) (Nat.zero_le _) dJ11_canEncode_2_16 ⟨rfl, rfl, rfl, rfl⟩
    · have hf := (if_neg c_2).symm.trans hf
      refine rb_iconst (v := 1) C dJ11_canEncode_2_11 rfl ?_
      refine rb_goto (tgt := 16) C dJ11_canEncode_2_12 (by decide) ?_
      subst hf
      exact rb_iret C rfl rfl (Nat.zero_le _) (Nat.zero_le _) dJ11_canEncode_2_16 ⟨rfl, rfl, rfl, rfl⟩
def f_J11_indexOfChar_l7_1 (Ev : rb_E) (x0 : Nat) (x1 : Int32) (x3 : Int32) (h : AH) : Nat → Int32 → Option Int32
  | 0, _ => none
  | k_l7_1 + 1, y5_l7_1 => (if x3 ≤ y5_l7_1 then (some (-1)) else ((hp_bl Ev h x0 y5_l7_1).bind fun v_3 => (if v_3 = x1.toInt8.toInt32 then (some y5_l7_1) else ((f_J11_indexOfChar_l7_1 Ev x0 x1 x3 h k_l7_1) (y5_l7_1 + 1)))))
def f_J11_indexOfChar (Ev : rb_E) (h : AH) (x0 : Nat) (x1 : Int32) (x2 : Int32) (x3 : Int32) : Option Int32 := (f_J11_indexOfChar_l7_1 Ev x0 x1 x3 h 4096 x2)
abbrev rm_J11_indexOfChar : Room := { frames := 0, cells := 0, slots := 0, locals := 0 }
set_option maxHeartbeats 4000000 in
theorem ct_J11_indexOfChar (Ev : rb_E) (h : AH) (n : Nat) (x0 : Nat) (x1 : Int32) (x2 : Int32) (x3 : Int32) (r : Int32) (hf : f_J11_indexOfChar Ev h x0 x1 x2 x3 = some r) : Ct Ev yJ11_indexOfChar (ws_ yJ11_indexOfChar cJ11_indexOfChar 6 (some .int)) (rm_J11_indexOfChar) [.ref x0, .int x1, .int x2, .int x3] h n (pXi .int r h n) := by
  rw [f_J11_indexOfChar] at hf
  refine Ct.of rfl (Nat.le_of_ble_eq_true rfl) fun X C hnm => ?_
  have C : Cx Ev X RJ11 cJ11_indexOfChar 6 (some .int) [] := C
  show Wa Ev X (rm_J11_indexOfChar) 6 h n 0 0 (rb_MQ Ev X (rm_J11_indexOfChar) (pXi .int r h n)) 0 [(0, .ref x0), (1, .int x1), (2, .int x2), (3, .int x3)] []
  refine rb_iload_n C dJ11_indexOfChar_0 rfl 1 rfl ?_
  refine rb_i2b (v := x1.toInt8.toInt32) C dJ11_indexOfChar_1 rfl ?_
  refine rb_istore (lv' := [(4, .int x1.toInt8.toInt32), (0, .ref x0), (1, .int x1), (2, .int x2), (3, .int x3)]) C dJ11_indexOfChar_2 (by decide) rfl ?_
  refine rb_iload_n C dJ11_indexOfChar_4 rfl 3 rfl ?_
  refine rb_istore (lv' := [(5, .int x2), (4, .int x1.toInt8.toInt32), (0, .ref x0), (1, .int x1), (2, .int x2), (3, .int x3)]) C dJ11_indexOfChar_5 (by decide) rfl ?_
  have L_l7_1 : ∀ (k_l7_1 : Nat) (y5_l7_1 : Int32), f_J11_indexOfChar_l7_1 Ev x0 x1 x3 h k_l7_1 y5_l7_1 = some r → Wa Ev X (rm_J11_indexOfChar) 6 h n 0 0 (rb_MQ Ev X (rm_J11_indexOfChar) (pXi .int r h n)) 7 [(0, .ref x0), (1, .int x1), (2, .int x2), (3, .int x3), (4, .int x1.toInt8.toInt32), (5, .int y5_l7_1)] [] := by
    intro k_l7_1
    induction k_l7_1 with
    | zero => intro y5_l7_1 hf; cases hf
    | succ k_l7_1 ih_l7_1 =>
      intro y5_l7_1 hf
      rw [f_J11_indexOfChar_l7_1] at hf
      refine rb_iload C dJ11_indexOfChar_7 5 rfl ?_
      refine rb_iload_n C dJ11_indexOfChar_9 rfl 3 rfl ?_
      refine rb_icmp_ge (tgt := 31) C dJ11_indexOfChar_10 (by decide) (fun c_2 => ?_) (fun c_2 => ?_)
      · have hf := (if_pos c_2).symm.trans hf
        refine rb_iconst (v := (-1)) C dJ11_indexOfChar_31 rfl ?_
        cases hf
        exact rb_iret C rfl rfl (Nat.zero_le _) (Nat.zero_le _) dJ11_indexOfChar_32 ⟨rfl, rfl, rfl, rfl⟩
      · have hf := (if_neg c_2).symm.trans hf
        refine rb_aload_n C dJ11_indexOfChar_13 rfl 0 rfl ?_
        refine rb_iload C dJ11_indexOfChar_14 5 rfl ?_
        obtain ⟨v_3, e_4, hf⟩ := rb_bd hf
        refine rb_hbl C e_4 dJ11_indexOfChar_16 ?_
        refine rb_iload C dJ11_indexOfChar_17 4 rfl ?_
        refine rb_icmp_ne (tgt := 25) C dJ11_indexOfChar_19 (by decide) (fun c_5 => ?_) (fun c_5 => ?_)
        · have hf := (if_neg c_5).symm.trans hf
          refine rb_iinc (v := (y5_l7_1 + 1)) (lv' := [(5, .int (y5_l7_1 + 1)), (0, .ref x0), (1, .int x1), (2, .int x2), (3, .int x3), (4, .int x1.toInt8.toInt32)]) C dJ11_indexOfChar_25 (k := 5) rfl rfl (by decide) rfl ?_
          refine rb_goto (tgt := 7) C dJ11_indexOfChar_28 (by decide) ?_
          refine rb_sub [1, 2, 3, 4, 5, 0] rfl ?_
          exact ih_l7_1 (y5_l7_1 + 1) hf
        · have hf := (if_pos c_5).symm.trans hf
          refine rb_iload C dJ11_indexOfChar_22 5 rfl ?_
          cases hf
          exact rb_iret C rfl rfl (Nat.zero_le _) (Nat.zero_le _) dJ11_indexOfChar_24 ⟨rfl, rfl, rfl, rfl⟩
  refine rb_sub [2, 3, 4, 5, 1, 0] rfl ?_
  exact L_l7_1 4096 x2 hf
def f_J11_indexOf (Ev : rb_E) (h : AH) (x0 : Nat) (x1 : Int32) (x2 : Int32) (x3 : Int32) : Option Int32 := (if (f_J11_canEncode_2 x1) = 0 then (some (-1)) else ((hp_len Ev h x0 1).bind fun v_3 => (if (if x2 < 0 then 0 else x2) < (if (nI v_3) < x3 then (nI v_3) else x3) then ((f_J11_indexOfChar Ev h x0 x1 (if x2 < 0 then 0 else x2) (if (nI v_3) < x3 then (nI v_3) else x3)).bind fun v_7 => (some v_7)) else (some (-1)))))
abbrev rm_J11_indexOf : Room := { frames := 1, cells := 0, slots := 0, locals := 60 }
set_option maxHeartbeats 4000000 in
theorem ct_J11_indexOf (Ev : rb_E) (h : AH) (n : Nat) (x0 : Nat) (x1 : Int32) (x2 : Int32) (x3 : Int32) (r : Int32) (hf : f_J11_indexOf Ev h x0 x1 x2 x3 = some r) : Ct Ev yJ11_indexOf (ws_ yJ11_indexOf cJ11_indexOf 4 (some .int)) (rm_J11_indexOf) [.ref x0, .int x1, .int x2, .int x3] h n (pXi .int r h n) := by
  rw [f_J11_indexOf] at hf
  refine Ct.of rfl (Nat.le_of_ble_eq_true rfl) fun X C hnm => ?_
  have C : Cx Ev X RJ11 cJ11_indexOf 4 (some .int) [] := C
  show Wa Ev X (rm_J11_indexOf) 4 h n 0 0 (rb_MQ Ev X (rm_J11_indexOf) (pXi .int r h n)) 0 [(0, .ref x0), (1, .int x1), (2, .int x2), (3, .int x3)] []
  refine rb_iload_n C dJ11_indexOf_0 rfl 1 rfl ?_
  refine rb_callS (As := [.int x1]) (rest := []) C mi_J11_canEncode_2 ss_J11_88 (ct_J11_canEncode_2 Ev h n x1 _ rfl) rfl rfl (Nat.le_of_ble_eq_true rfl) ⟨Nat.le_of_ble_eq_true rfl, Nat.le_of_ble_eq_true rfl, (Nat.zero_le _), (Nat.zero_le _)⟩ dJ11_indexOf_1 rb_xXi (rb_kXi fun hn_1 => (rb_w (kc := 0) (ks := 0) rfl rfl ?_))
  refine rb_if_ne (tgt := 9) C dJ11_indexOf_4 (by decide) (fun c_2 => ?_) (fun c_2 => ?_)
  · have hf := (if_neg c_2).symm.trans hf
    refine rb_iload_n C dJ11_indexOf_9 rfl 2 rfl ?_
    refine rb_iconst (v := 0) C dJ11_indexOf_10 rfl ?_
    refine rb_mmax C q802 q288 q81 q289 (Nat.le_of_ble_eq_true rfl) (Nat.le_of_ble_eq_true rfl) (Nat.zero_le _) (Nat.zero_le _) dJ11_indexOf_11 ?_
    refine rb_istore_n (lv' := [(2, .int (if x2 < 0 then 0 else x2)), (0, .ref x0), (1, .int x1), (3, .int x3)]) C dJ11_indexOf_14 rfl (by decide) rfl ?_
    refine rb_iload_n C dJ11_indexOf_15 rfl 3 rfl ?_
    refine rb_aload_n C dJ11_indexOf_16 rfl 1 rfl ?_
    obtain ⟨v_3, e_4, hf⟩ := rb_bd hf
    refine rb_hlen (t := 1) C rfl e_4 dJ11_indexOf_17 ?_
    refine rb_mmin C q803 q306 q81 q307 (Nat.le_of_ble_eq_true rfl) (Nat.le_of_ble_eq_true rfl) (Nat.zero_le _) (Nat.zero_le _) dJ11_indexOf_18 ?_
    refine rb_istore_n (lv' := [(3, .int (if (nI v_3) < x3 then (nI v_3) else x3)), (2, .int (if x2 < 0 then 0 else x2)), (0, .ref x0), (1, .int x1)]) C dJ11_indexOf_21 rfl (by decide) rfl ?_
    refine rb_iload_n C dJ11_indexOf_22 rfl 1 rfl ?_
    refine rb_iload_n C dJ11_indexOf_23 rfl 0 rfl ?_
    refine rb_icmp_lt (tgt := 29) C dJ11_indexOf_24 (by decide) (fun c_5 => ?_) (fun c_5 => ?_)
    · have hf := (if_pos c_5).symm.trans hf
      refine rb_aload_n C dJ11_indexOf_29 rfl 2 rfl ?_
      refine rb_iload_n C dJ11_indexOf_30 rfl 3 rfl ?_
      refine rb_iload_n C dJ11_indexOf_31 rfl 1 rfl ?_
      refine rb_iload_n C dJ11_indexOf_32 rfl 0 rfl ?_
      obtain ⟨v_7, e_8, hf⟩ := rb_bd hf
      refine rb_callS (As := [.ref x0, .int x1, .int (if x2 < 0 then 0 else x2), .int (if (nI v_3) < x3 then (nI v_3) else x3)]) (rest := []) C mi_J11_indexOfChar ss_J11_95 (ct_J11_indexOfChar Ev h n x0 x1 (if x2 < 0 then 0 else x2) (if (nI v_3) < x3 then (nI v_3) else x3) _ e_8) rfl rfl (Nat.le_of_ble_eq_true rfl) ⟨Nat.le_of_ble_eq_true rfl, Nat.le_of_ble_eq_true rfl, (Nat.zero_le _), (Nat.zero_le _)⟩ dJ11_indexOf_33 rb_xXi (rb_kXi fun hn_6 => (rb_w (kc := 0) (ks := 0) rfl rfl ?_))
      cases hf
      exact rb_iret C rfl rfl (Nat.zero_le _) (Nat.zero_le _) dJ11_indexOf_36 ⟨rfl, rfl, rfl, rfl⟩
    · have hf := (if_neg c_5).symm.trans hf
      refine rb_iconst (v := (-1)) C dJ11_indexOf_27 rfl ?_
      cases hf
      exact rb_iret C rfl rfl (Nat.zero_le _) (Nat.zero_le _) dJ11_indexOf_28 ⟨rfl, rfl, rfl, rfl⟩
  · have hf := (if_pos c_2).symm.trans hf
    refine rb_iconst (v := (-1)) C dJ11_indexOf_7 rfl ?_
    cases hf
    exact rb_iret C rfl rfl (Nat.zero_le _) (Nat.zero_le _) dJ11_indexOf_8 ⟨rfl, rfl, rfl, rfl⟩
def f_J2_indexOf_2 (Ev : rb_E) (h : AH) (o : Nat) (x1 : Int32) (x2 : Int32) : Option Int32 := ((hp_k Ev h o 14).bind fun u_1 => ((f_J2_isLatin1 Ev h o).bind fun v_4 => (if v_4 = 0 then ((hp_p Ev h o 14 0).bind fun v_7 => ((hp_k Ev h o 14).bind fun u_9 => ((f_J2_length Ev h o).bind fun v_12 => ((f_J3_indexOf Ev h v_7 x1 x2 v_12).bind fun v_15 => (some v_15))))) else ((hp_p Ev h o 14 0).bind fun v_17 => ((hp_k Ev h o 14).bind fun u_19 => ((f_J2_length Ev h o).bind fun v_22 => ((f_J11_indexOf Ev h v_17 x1 x2 v_22).bind fun v_25 => (some v_25))))))))
abbrev rm_J2_indexOf_2 : Room := { frames := 5, cells := 0, slots := 0, locals := 116 }
set_option maxHeartbeats 4000000 in
theorem ct_J2_indexOf_2 (Ev : rb_E) (h : AH) (n : Nat) (o : Nat) (x1 : Int32) (x2 : Int32) (r : Int32) (hf : f_J2_indexOf_2 Ev h o x1 x2 = some r) : Ct Ev yJ2_indexOf_2 (ws_ yJ2_indexOf_2 cJ2_indexOf_2 3 (some .int)) (rm_J2_indexOf_2) [.ref o, .int x1, .int x2] h n (pXi .int r h n) := by
  rw [f_J2_indexOf_2] at hf
  refine Ct.of rfl (Nat.le_of_ble_eq_true rfl) fun X C hnm => ?_
  have C : Cx Ev X RJ2 cJ2_indexOf_2 3 (some .int) [] := C
  show Wa Ev X (rm_J2_indexOf_2) 3 h n 0 0 (rb_MQ Ev X (rm_J2_indexOf_2) (pXi .int r h n)) 0 [(0, .ref o), (1, .int x1), (2, .int x2)] []
  refine rb_aload_n C dJ2_indexOf_2_0 rfl 0 rfl ?_
  obtain ⟨u_1, e_2, hf⟩ := rb_bd hf
  obtain ⟨v_4, e_5, hf⟩ := rb_bd hf
  refine rb_callV (As := []) (rest := []) C mi_J2_isLatin1 sv_J2_492 (hp_k_isC C.pf e_2 ck_J2) (ct_J2_isLatin1 Ev h n o _ e_5) rfl rfl (Nat.le_of_ble_eq_true rfl) ⟨Nat.le_of_ble_eq_true rfl, Nat.le_of_ble_eq_true rfl, (Nat.zero_le _), (Nat.zero_le _)⟩ dJ2_indexOf_2_1 rb_xXi (rb_kXi fun hn_3 => (rb_w (kc := 0) (ks := 0) rfl rfl ?_))
  refine rb_if_eq (tgt := 23) C dJ2_indexOf_2_4 (by decide) (fun c_6 => ?_) (fun c_6 => ?_)
  · have hf := (if_pos c_6).symm.trans hf
    refine rb_aload_n C dJ2_indexOf_2_23 rfl 0 rfl ?_
    obtain ⟨v_7, e_8, hf⟩ := rb_bd hf
    refine rb_hP C fl_J2_9_J2 e_8 dJ2_indexOf_2_24 ?_
    refine rb_iload_n C dJ2_indexOf_2_27 rfl 1 rfl ?_
    refine rb_iload_n C dJ2_indexOf_2_28 rfl 2 rfl ?_
    refine rb_aload_n C dJ2_indexOf_2_29 rfl 0 rfl ?_
    obtain ⟨u_9, e_10, hf⟩ := rb_bd hf
    obtain ⟨v_12, e_13, hf⟩ := rb_bd hf
    refine rb_callV (As := []) (rest := [.int x2, .int x1, .ref v_7]) C mi_J2_length sv_J2_505 (hp_k_isC C.pf e_10 ck_J2) (ct_J2_length Ev h n o _ e_13) rfl rfl (Nat.le_of_ble_eq_true rfl) ⟨Nat.le_of_ble_eq_true rfl, Nat.le_of_ble_eq_true rfl, (Nat.zero_le _), (Nat.zero_le _)⟩ dJ2_indexOf_2_30 rb_xXi (rb_kXi fun hn_11 => (rb_w (kc := 0) (ks := 0) rfl rfl ?_))
    obtain ⟨v_15, e_16, hf⟩ := rb_bd hf
    refine rb_callS (As := [.ref v_7, .int x1, .int x2, .int v_12]) (rest := []) C mi_J3_indexOf ss_J2_640 (ct_J3_indexOf Ev h n v_7 x1 x2 v_12 _ e_16) rfl rfl (Nat.le_of_ble_eq_true rfl) ⟨Nat.le_of_ble_eq_true rfl, Nat.le_of_ble_eq_true rfl, (Nat.zero_le _), (Nat.zero_le _)⟩ dJ2_indexOf_2_33 rb_xXi (rb_kXi fun hn_14 => (rb_w (kc := 0) (ks := 0) rfl rfl ?_))
    cases hf
    exact rb_iret C rfl rfl (Nat.zero_le _) (Nat.zero_le _) dJ2_indexOf_2_36 ⟨rfl, rfl, rfl, rfl⟩
  · have hf := (if_neg c_6).symm.trans hf
    refine rb_aload_n C dJ2_indexOf_2_7 rfl 0 rfl ?_
    obtain ⟨v_17, e_18, hf⟩ := rb_bd hf
    refine rb_hP C fl_J2_9_J2 e_18 dJ2_indexOf_2_8 ?_
    refine rb_iload_n C dJ2_indexOf_2_11 rfl 1 rfl ?_
    refine rb_iload_n C dJ2_indexOf_2_12 rfl 2 rfl ?_
    refine rb_aload_n C dJ2_indexOf_2_13 rfl 0 rfl ?_
    obtain ⟨u_19, e_20, hf⟩ := rb_bd hf
    obtain ⟨v_22, e_23, hf⟩ := rb_bd hf
    refine rb_callV (As := []) (rest := [.int x2, .int x1, .ref v_17]) C mi_J2_length sv_J2_505 (hp_k_isC C.pf e_20 ck_J2) (ct_J2_length Ev h n o _ e_23) rfl rfl (Nat.le_of_ble_eq_true rfl) ⟨Nat.le_of_ble_eq_true rfl, Nat.le_of_ble_eq_true rfl, (Nat.zero_le _), (Nat.zero_le _)⟩ dJ2_indexOf_2_14 rb_xXi (rb_kXi fun hn_21 => (rb_w (kc := 0) (ks := 0) rfl rfl ?_))
    obtain ⟨v_25, e_26, hf⟩ := rb_bd hf
    refine rb_callS (As := [.ref v_17, .int x1, .int x2, .int v_22]) (rest := []) C mi_J11_indexOf ss_J2_637 (ct_J11_indexOf Ev h n v_17 x1 x2 v_22 _ e_26) rfl rfl (Nat.le_of_ble_eq_true rfl) ⟨Nat.le_of_ble_eq_true rfl, Nat.le_of_ble_eq_true rfl, (Nat.zero_le _), (Nat.zero_le _)⟩ dJ2_indexOf_2_17 rb_xXi (rb_kXi fun hn_24 => (rb_w (kc := 0) (ks := 0) rfl rfl ?_))
    refine rb_goto (tgt := 36) C dJ2_indexOf_2_20 (by decide) ?_
    cases hf
    exact rb_iret C rfl rfl (Nat.zero_le _) (Nat.zero_le _) dJ2_indexOf_2_36 ⟨rfl, rfl, rfl, rfl⟩
def f_J2_indexOf (Ev : rb_E) (h : AH) (o : Nat) (x1 : Int32) : Option Int32 := ((hp_k Ev h o 14).bind fun u_1 => ((f_J2_indexOf_2 Ev h o x1 0).bind fun v_4 => (some v_4)))
abbrev rm_J2_indexOf : Room := { frames := 6, cells := 0, slots := 0, locals := 138 }
set_option maxHeartbeats 4000000 in
theorem ct_J2_indexOf (Ev : rb_E) (h : AH) (n : Nat) (o : Nat) (x1 : Int32) (r : Int32) (hf : f_J2_indexOf Ev h o x1 = some r) : Ct Ev yJ2_indexOf (ws_ yJ2_indexOf cJ2_indexOf 2 (some .int)) (rm_J2_indexOf) [.ref o, .int x1] h n (pXi .int r h n) := by
  rw [f_J2_indexOf] at hf
  refine Ct.of rfl (Nat.le_of_ble_eq_true rfl) fun X C hnm => ?_
  have C : Cx Ev X RJ2 cJ2_indexOf 2 (some .int) [] := C
  show Wa Ev X (rm_J2_indexOf) 2 h n 0 0 (rb_MQ Ev X (rm_J2_indexOf) (pXi .int r h n)) 0 [(0, .ref o), (1, .int x1)] []
  refine rb_aload_n C dJ2_indexOf_0 rfl 0 rfl ?_
  refine rb_iload_n C dJ2_indexOf_1 rfl 1 rfl ?_
  refine rb_iconst (v := 0) C dJ2_indexOf_2 rfl ?_
  obtain ⟨u_1, e_2, hf⟩ := rb_bd hf
  obtain ⟨v_4, e_5, hf⟩ := rb_bd hf
  refine rb_callV (As := [.int x1, .int 0]) (rest := []) C mi_J2_indexOf_2 sv_J2_633 (hp_k_isC C.pf e_2 ck_J2) (ct_J2_indexOf_2 Ev h n o x1 0 _ e_5) rfl rfl (Nat.le_of_ble_eq_true rfl) ⟨Nat.le_of_ble_eq_true rfl, Nat.le_of_ble_eq_true rfl, (Nat.zero_le _), (Nat.zero_le _)⟩ dJ2_indexOf_3 rb_xXi (rb_kXi fun hn_3 => (rb_w (kc := 0) (ks := 0) rfl rfl ?_))
  cases hf
  exact rb_iret C rfl rfl (Nat.zero_le _) (Nat.zero_le _) dJ2_indexOf_6 ⟨rfl, rfl, rfl, rfl⟩
def f_X1_requireArgument (Ev : rb_E) (h : AH) (n : Nat) (x0 : Int32) : Option ((Unit ⊕ (String × Nat)) × AH × Nat × Nat) := (if x0 = 0 then (some (.inr ("java/lang/IllegalArgumentException", n), h, 1, 6)) else (some (.inl (), h, 0, 0)))
abbrev rm_X1_requireArgument (k s : Nat) : Room := { frames := 6, cells := k, slots := s, locals := 89 }
set_option maxHeartbeats 4000000 in
theorem ct_X1_requireArgument (Ev : rb_E) (h : AH) (n : Nat) (x0 : Int32) (r : Unit ⊕ (String × Nat)) (h' : AH) (k s : Nat) (hf : f_X1_requireArgument Ev h n x0 = some (r, h', k, s)) : Ct Ev yX1_requireArgument (ws_ yX1_requireArgument cX1_requireArgument 1 none) (rm_X1_requireArgument k s) [.int x0] h n (pX (rMap (fun _ => none) r) h' (n + k)) := by
  rw [f_X1_requireArgument] at hf
  refine Ct.of rfl (Nat.le_of_ble_eq_true rfl) fun X C hnm => ?_
  have C : Cx Ev X RX1 cX1_requireArgument 1 none [] := C
  show Wa Ev X (rm_X1_requireArgument k s) 1 h n 0 0 (rb_MQ Ev X (rm_X1_requireArgument k s) (pX (rMap (fun _ => none) r) h' (n + k))) 0 [(0, .int x0)] []
  have hb : Bd (n + k) k s n 0 0 k s := ⟨rfl, Nat.le_of_eq (Nat.zero_add _), Nat.le_of_eq (Nat.zero_add _)⟩
  refine rb_iload_n C dX1_requireArgument_0 rfl 0 rfl ?_
  refine rb_if_ne (tgt := 12) C dX1_requireArgument_1 (by decide) (fun c_1 => ?_) (fun c_1 => ?_)
  · have hf := (if_neg c_1).symm.trans hf
    cases hf
    exact rb_vret C rfl hb.e.2.1 hb.e.2.2 dX1_requireArgument_12 ⟨rfl, rfl, hb.e.1⟩
  · have hf := (if_pos c_1).symm.trans hf
    cases hf
    exact rb_hthrow0 C t0_X1_3 t0_X1_3k dX1_requireArgument_4 dX1_requireArgument_7 dX1_requireArgument_8 dX1_requireArgument_11 (fun _ z => absurd z List.not_mem_nil) (Nat.le_of_ble_eq_true rfl) (Nat.le_of_ble_eq_true rfl) (by have := hb.e.2.1; exact this) (by have := hb.e.2.2; exact this) ⟨rfl, rfl, (by have := hb.e.1; exact this)⟩
def f_J12_init_3_X6 (Ev : rb_E) (h : AH) (n : Nat) (o : Nat) (x1 : Option Nat) (x2 : Option Nat) (x3 : Int32) (x4 : Int32) : Option (Unit × AH × Nat × Nat) := (match x1 with | none => (match x2 with | none => ((hp_put h o 4 0 (.ref o)).bind fun h_1 => ((hp_so Ev "java/lang/Throwable" "UNASSIGNED_STACK").bind fun v_3 => (match v_3 with | none => ((hp_put h_1 o 4 1 (.null)).bind fun h_5 => ((hp_so Ev "java/lang/Throwable" "SUPPRESSED_SENTINEL").bind fun v_7 => (match v_7 with | none => ((hp_put h_5 o 4 2 (.null)).bind fun h_9 => (if x4 = 0 then ((hp_put h_9 o 4 1 (.null)).bind fun h_13 => ((hp_put h_13 o 4 3 (.null)).bind fun h_15 => ((hp_put h_15 o 4 0 (.null)).bind fun h_17 => (if x3 = 0 then ((hp_put h_17 o 4 2 (.null)).bind fun h_20 => (some ((), h_20, 0, 0))) else (some ((), h_17, 0, 0)))))) else none)) | some v_7_q => ((hp_put h_5 o 4 2 (.ref v_7_q)).bind fun h_22 => (if x4 = 0 then ((hp_put h_22 o 4 1 (.null)).bind fun h_26 => ((hp_put h_26 o 4 3 (.null)).bind fun h_28 => ((hp_put h_28 o 4 0 (.null)).bind fun h_30 => (if x3 = 0 then ((hp_put h_30 o 4 2 (.null)).bind fun h_33 => (some ((), h_33, 0, 0))) else (some ((), h_30, 0, 0)))))) else none))))) | some v_3_q => ((hp_put h_1 o 4 1 (.ref v_3_q)).bind fun h_35 => ((hp_so Ev "java/lang/Throwable" "SUPPRESSED_SENTINEL").bind fun v_37 => (match v_37 with | none => ((hp_put h_35 o 4 2 (.null)).bind fun h_39 => (if x4 = 0 then ((hp_put h_39 o 4 1 (.null)).bind fun h_43 => ((hp_put h_43 o 4 3 (.null)).bind fun h_45 => ((hp_put h_45 o 4 0 (.null)).bind fun h_47 => (if x3 = 0 then ((hp_put h_47 o 4 2 (.null)).bind fun h_50 => (some ((), h_50, 0, 0))) else (some ((), h_47, 0, 0)))))) else none)) | some v_37_q => ((hp_put h_35 o 4 2 (.ref v_37_q)).bind fun h_52 => (if x4 = 0 then ((hp_put h_52 o 4 1 (.null)).bind fun h_56 => ((hp_put h_56 o 4 3 (.null)).bind fun h_58 => ((hp_put h_58 o 4 0 (.null)).bind fun h_60 => (if x3 = 0 then ((hp_put h_60 o 4 2 (.null)).bind fun h_63 => (some ((), h_63, 0, 0))) else (some ((), h_60, 0, 0)))))) else none)))))))) | some x2_q => ((hp_put h o 4 0 (.ref o)).bind fun h_65 => ((hp_so Ev "java/lang/Throwable" "UNASSIGNED_STACK").bind fun v_67 => (match v_67 with | none => ((hp_put h_65 o 4 1 (.null)).bind fun h_69 => ((hp_so Ev "java/lang/Throwable" "SUPPRESSED_SENTINEL").bind fun v_71 => (match v_71 with | none => ((hp_put h_69 o 4 2 (.null)).bind fun h_73 => (if x4 = 0 then ((hp_put h_73 o 4 1 (.null)).bind fun h_77 => ((hp_put h_77 o 4 3 (.null)).bind fun h_79 => ((hp_put h_79 o 4 0 (.ref x2_q)).bind fun h_81 => (if x3 = 0 then ((hp_put h_81 o 4 2 (.null)).bind fun h_84 => (some ((), h_84, 0, 0))) else (some ((), h_81, 0, 0)))))) else none)) | some v_71_q => ((hp_put h_69 o 4 2 (.ref v_71_q)).bind fun h_86 => (if x4 = 0 then ((hp_put h_86 o 4 1 (.null)).bind fun h_90 => ((hp_put h_90 o 4 3 (.null)).bind fun h_92 => ((hp_put h_92 o 4 0 (.ref x2_q)).bind fun h_94 => (if x3 = 0 then ((hp_put h_94 o 4 2 (.null)).bind fun h_97 => (some ((), h_97, 0, 0))) else (some ((), h_94, 0, 0)))))) else none))))) | some v_67_q => ((hp_put h_65 o 4 1 (.ref v_67_q)).bind fun h_99 => ((hp_so Ev "java/lang/Throwable" "SUPPRESSED_SENTINEL").bind fun v_101 => (match v_101 with | none => ((hp_put h_99 o 4 2 (.null)).bind fun h_103 => (if x4 = 0 then ((hp_put h_103 o 4 1 (.null)).bind fun h_107 => ((hp_put h_107 o 4 3 (.null)).bind fun h_109 => ((hp_put h_109 o 4 0 (.ref x2_q)).bind fun h_111 => (if x3 = 0 then ((hp_put h_111 o 4 2 (.null)).bind fun h_114 => (some ((), h_114, 0, 0))) else (some ((), h_111, 0, 0)))))) else none)) | some v_101_q => ((hp_put h_99 o 4 2 (.ref v_101_q)).bind fun h_116 => (if x4 = 0 then ((hp_put h_116 o 4 1 (.null)).bind fun h_120 => ((hp_put h_120 o 4 3 (.null)).bind fun h_122 => ((hp_put h_122 o 4 0 (.ref x2_q)).bind fun h_124 => (if x3 = 0 then ((hp_put h_124 o 4 2 (.null)).bind fun h_127 => (some ((), h_127, 0, 0))) else (some ((), h_124, 0, 0)))))) else none))))))))) | some x1_q => (match x2 with | none => ((hp_put h o 4 0 (.ref o)).bind fun h_129 => ((hp_so Ev "java/lang/Throwable" "UNASSIGNED_STACK").bind fun v_131 => (match v_131 with | none => ((hp_put h_129 o 4 1 (.null)).bind fun h_133 => ((hp_so Ev "java/lang/Throwable" "SUPPRESSED_SENTINEL").bind fun v_135 => (match v_135 with | none => ((hp_put h_133 o 4 2 (.null)).bind fun h_137 => (if x4 = 0 then ((hp_put h_137 o 4 1 (.null)).bind fun h_141 => ((hp_put h_141 o 4 3 (.ref x1_q)).bind fun h_143 => ((hp_put h_143 o 4 0 (.null)).bind fun h_145 => (if x3 = 0 then ((hp_put h_145 o 4 2 (.null)).bind fun h_148 => (some ((), h_148, 0, 0))) else (some ((), h_145, 0, 0)))))) else none)) | some v_135_q => ((hp_put h_133 o 4 2 (.ref v_135_q)).bind fun h_150 => (if x4 = 0 then ((hp_put h_150 o 4 1 (.null)).bind fun h_154 => ((hp_put h_154 o 4 3 (.ref x1_q)).bind fun h_156 => ((hp_put h_156 o 4 0 (.null)).bind fun h_158 => (if x3 = 0 then ((hp_put h_158 o 4 2 (.null)).bind fun h_161 => (some ((), h_161, 0, 0))) else (some ((), h_158, 0, 0)))))) else none))))) | some v_131_q => ((hp_put h_129 o 4 1 (.ref v_131_q)).bind fun h_163 => ((hp_so Ev "java/lang/Throwable" "SUPPRESSED_SENTINEL").bind fun v_165 => (match v_165 with | none => ((hp_put h_163 o 4 2 (.null)).bind fun h_167 => (if x4 = 0 then ((hp_put h_167 o 4 1 (.null)).bind fun h_171 => ((hp_put h_171 o 4 3 (.ref x1_q)).bind fun h_173 => ((hp_put h_173 o 4 0 (.null)).bind fun h_175 => (if x3 = 0 then ((hp_put h_175 o 4 2 (.null)).bind fun h_178 => (some ((), h_178, 0, 0))) else (some ((), h_175, 0, 0)))))) else none)) | some v_165_q => ((hp_put h_163 o 4 2 (.ref v_165_q)).bind fun h_180 => (if x4 = 0 then ((hp_put h_180 o 4 1 (.null)).bind fun h_184 => ((hp_put h_184 o 4 3 (.ref x1_q)).bind fun h_186 => ((hp_put h_186 o 4 0 (.null)).bind fun h_188 => (if x3 = 0 then ((hp_put h_188 o 4 2 (.null)).bind fun h_191 => (some ((), h_191, 0, 0))) else (some ((), h_188, 0, 0)))))) else none)))))))) | some x2_q => ((hp_put h o 4 0 (.ref o)).bind fun h_193 => ((hp_so Ev "java/lang/Throwable" "UNASSIGNED_STACK").bind fun v_195 => (match v_195 with | none => ((hp_put h_193 o 4 1 (.null)).bind fun h_197 => ((hp_so Ev "java/lang/Throwable" "SUPPRESSED_SENTINEL").bind fun v_199 => (match v_199 with | none => ((hp_put h_197 o 4 2 (.null)).bind fun h_201 => (if x4 = 0 then ((hp_put h_201 o 4 1 (.null)).bind fun h_205 => ((hp_put h_205 o 4 3 (.ref x1_q)).bind fun h_207 => ((hp_put h_207 o 4 0 (.ref x2_q)).bind fun h_209 => (if x3 = 0 then ((hp_put h_209 o 4 2 (.null)).bind fun h_212 => (some ((), h_212, 0, 0))) else (some ((), h_209, 0, 0)))))) else none)) | some v_199_q => ((hp_put h_197 o 4 2 (.ref v_199_q)).bind fun h_214 => (if x4 = 0 then ((hp_put h_214 o 4 1 (.null)).bind fun h_218 => ((hp_put h_218 o 4 3 (.ref x1_q)).bind fun h_220 => ((hp_put h_220 o 4 0 (.ref x2_q)).bind fun h_222 => (if x3 = 0 then ((hp_put h_222 o 4 2 (.null)).bind fun h_225 => (some ((), h_225, 0, 0))) else (some ((), h_222, 0, 0)))))) else none))))) | some v_195_q => ((hp_put h_193 o 4 1 (.ref v_195_q)).bind fun h_227 => ((hp_so Ev "java/lang/Throwable" "SUPPRESSED_SENTINEL").bind fun v_229 => (match v_229 with | none => ((hp_put h_227 o 4 2 (.null)).bind fun h_231 => (if x4 = 0 then ((hp_put h_231 o 4 1 (.null)).bind fun h_235 => ((hp_put h_235 o 4 3 (.ref x1_q)).bind fun h_237 => ((hp_put h_237 o 4 0 (.ref x2_q)).bind fun h_239 => (if x3 = 0 then ((hp_put h_239 o 4 2 (.null)).bind fun h_242 => (some ((), h_242, 0, 0))) else (some ((), h_239, 0, 0)))))) else none)) | some v_229_q => ((hp_put h_227 o 4 2 (.ref v_229_q)).bind fun h_244 => (if x4 = 0 then ((hp_put h_244 o 4 1 (.null)).bind fun h_248 => ((hp_put h_248 o 4 3 (.ref x1_q)).bind fun h_250 => ((hp_put h_250 o 4 0 (.ref x2_q)).bind fun h_252 => (if x3 = 0 then ((hp_put h_252 o 4 2 (.null)).bind fun h_255 => (some ((), h_255, 0, 0))) else (some ((), h_252, 0, 0)))))) else none))))))))))
abbrev rm_J12_init_3_X6 (k s : Nat) : Room := { frames := 1, cells := k, slots := s, locals := 40 }
set_option maxHeartbeats 4000000 in
theorem ct_J12_init_3_X6 (Ev : rb_E) (h : AH) (n : Nat) (o : Nat) (x1 : Option Nat) (x2 : Option Nat) (x3 : Int32) (x4 : Int32) (r : Unit) (h' : AH) (k s : Nat) (hf : f_J12_init_3_X6 Ev h n o x1 x2 x3 x4 = some (r, h', k, s)) : Ct Ev yJ12_init_3 (ws_ yJ12_init_3 cJ12_init_3 5 none) (rm_J12_init_3_X6 k s) [.ref o, va_rf x1, va_rf x2, .int x3, .int x4] h n (pX (.inl (none)) h' (n + k)) := by
  unfold f_J12_init_3_X6 at hf
  cases x1 with
  | none =>
    dsimp only at hf
    cases x2 with
    | none =>
      dsimp only at hf
      refine Ct.of rfl (Nat.le_of_ble_eq_true rfl) fun X C hnm => ?_
      have C : Cx Ev X RJ12 cJ12_init_3 5 none [] := C
      show Wa Ev X (rm_J12_init_3_X6 k s) 5 h n 0 0 (rb_MQ Ev X (rm_J12_init_3_X6 k s) (pX (.inl (none)) h' (n + k))) 0 [(0, .ref o), (1, .null), (2, .null), (3, .int x3), (4, .int x4)] []
      have hb : Bd (n + k) k s n 0 0 k s := ⟨rfl, Nat.le_of_eq (Nat.zero_add _), Nat.le_of_eq (Nat.zero_add _)⟩
      refine rb_aload_n C dJ12_init_3_0 rfl 0 rfl ?_
      refine rb_objInit C q615 q123 q124 dJ12_init_3_1 (Nat.le_of_ble_eq_true rfl) (Nat.le_of_ble_eq_true rfl) ?_
      refine rb_aload_n C dJ12_init_3_4 rfl 0 rfl ?_
      refine rb_aload_n C dJ12_init_3_5 rfl 0 rfl ?_
      obtain ⟨h_1, e_2, hf⟩ := rb_bd hf
      refine rb_hput C fw_J12_7_X6 e_2 rfl rfl dJ12_init_3_6 ?_
      refine rb_aload_n C dJ12_init_3_9 rfl 0 rfl ?_
      obtain ⟨v_3, e_4, hf⟩ := rb_bd hf
      refine rb_hso C q616 q617 e_4 dJ12_init_3_10 ?_
      cases v_3 with
      | none =>
        dsimp only at hf
        obtain ⟨h_5, e_6, hf⟩ := rb_bd hf
        refine rb_hput C fw_J12_17_X6 e_6 rfl rfl dJ12_init_3_13 ?_
        refine rb_aload_n C dJ12_init_3_16 rfl 0 rfl ?_
        obtain ⟨v_7, e_8, hf⟩ := rb_bd hf
        refine rb_hso C q618 q619 e_8 dJ12_init_3_17 ?_
        cases v_7 with
        | none =>
          dsimp only at hf
          obtain ⟨h_9, e_10, hf⟩ := rb_bd hf
          refine rb_hput C fw_J12_24_X6 e_10 rfl rfl dJ12_init_3_20 ?_
          refine rb_iload C dJ12_init_3_23 4 rfl ?_
          refine rb_if_eq (tgt := 36) C dJ12_init_3_25 (by decide) (fun c_11 => ?_) (fun c_11 => ?_)
          · have hf := (if_pos c_11).symm.trans hf
            refine rb_aload_n C dJ12_init_3_36 rfl 0 rfl ?_
            refine rb_null C dJ12_init_3_37 ?_
            obtain ⟨h_13, e_14, hf⟩ := rb_bd hf
            refine rb_hput C fw_J12_17_X6 e_14 rfl rfl dJ12_init_3_38 ?_
            refine rb_aload_n C dJ12_init_3_41 rfl 0 rfl ?_
            refine rb_aload_nN C dJ12_init_3_42 rfl 1 rfl ?_
            obtain ⟨h_15, e_16, hf⟩ := rb_bd hf
            refine rb_hput C fw_J12_31_X6 e_16 rfl rfl dJ12_init_3_43 ?_
            refine rb_aload_n C dJ12_init_3_46 rfl 0 rfl ?_
            refine rb_aload_nN C dJ12_init_3_47 rfl 2 rfl ?_
            obtain ⟨h_17, e_18, hf⟩ := rb_bd hf
            refine rb_hput C fw_J12_7_X6 e_18 rfl rfl dJ12_init_3_48 ?_
            refine rb_iload_n C dJ12_init_3_51 rfl 3 rfl ?_
            refine rb_if_ne (tgt := 60) C dJ12_init_3_52 (by decide) (fun c_19 => ?_) (fun c_19 => ?_)
            · have hf := (if_neg c_19).symm.trans hf
              cases hf
              exact rb_vret C rfl hb.e.2.1 hb.e.2.2 dJ12_init_3_60 ⟨rfl, rfl, hb.e.1⟩
            · have hf := (if_pos c_19).symm.trans hf
              refine rb_aload_n C dJ12_init_3_55 rfl 0 rfl ?_
              refine rb_null C dJ12_init_3_56 ?_
              obtain ⟨h_20, e_21, hf⟩ := rb_bd hf
              refine rb_hput C fw_J12_24_X6 e_21 rfl rfl dJ12_init_3_57 ?_
              cases hf
              exact rb_vret C rfl hb.e.2.1 hb.e.2.2 dJ12_init_3_60 ⟨rfl, rfl, hb.e.1⟩
          · have hf := (if_neg c_11).symm.trans hf
            refine rb_aload_n C dJ12_init_3_28 rfl 0 rfl ?_
            cases hf
        | some v_7_q =>
          dsimp only at hf
          obtain ⟨h_22, e_23, hf⟩ := rb_bd hf
          refine rb_hput C fw_J12_24_X6 e_23 rfl rfl dJ12_init_3_20 ?_
          refine rb_iload C dJ12_init_3_23 4 rfl ?_
          refine rb_if_eq (tgt := 36) C dJ12_init_3_25 (by decide) (fun c_24 => ?_) (fun c_24 => ?_)
          · have hf := (if_pos c_24).symm.trans hf
            refine rb_aload_n C dJ12_init_3_36 rfl 0 rfl ?_
            refine rb_null C dJ12_init_3_37 ?_
            obtain ⟨h_26, e_27, hf⟩ := rb_bd hf
            refine rb_hput C fw_J12_17_X6 e_27 rfl rfl dJ12_init_3_38 ?_
            refine rb_aload_n C dJ12_init_3_41 rfl 0 rfl ?_
            refine rb_aload_nN C dJ12_init_3_42 rfl 1 rfl ?_
            obtain ⟨h_28, e_29, hf⟩ := rb_bd hf
            refine rb_hput C fw_J12_31_X6 e_29 rfl rfl dJ12_init_3_43 ?_
            refine rb_aload_n C dJ12_init_3_46 rfl 0 rfl ?_
            refine rb_aload_nN C dJ12_init_3_47 rfl 2 rfl ?_
            obtain ⟨h_30, e_31, hf⟩ := rb_bd hf
            refine rb_hput C fw_J12_7_X6 e_31 rfl rfl dJ12_init_3_48 ?_
            refine rb_iload_n C dJ12_init_3_51 rfl 3 rfl ?_
            refine rb_if_ne (tgt := 60) C dJ12_init_3_52 (by decide) (fun c_32 => ?_) (fun c_32 => ?_)
            · have hf := (if_neg c_32).symm.trans hf
              cases hf
              exact rb_vret C rfl hb.e.2.1 hb.e.2.2 dJ12_init_3_60 ⟨rfl, rfl, hb.e.1⟩
            · have hf := (if_pos c_32).symm.trans hf
              refine rb_aload_n C dJ12_init_3_55 rfl 0 rfl ?_
              refine rb_null C dJ12_init_3_56 ?_
              obtain ⟨h_33, e_34, hf⟩ := rb_bd hf
              refine rb_hput C fw_J12_24_X6 e_34 rfl rfl dJ12_init_3_57 ?_
              cases hf
              exact rb_vret C rfl hb.e.2.1 hb.e.2.2 dJ12_init_3_60 ⟨rfl, rfl, hb.e.1⟩
          · have hf := (if_neg c_24).symm.trans hf
            refine rb_aload_n C dJ12_init_3_28 rfl 0 rfl ?_
            cases hf
      | some v_3_q =>
        dsimp only at hf
        obtain ⟨h_35, e_36, hf⟩ := rb_bd hf
        refine rb_hput C fw_J12_17_X6 e_36 rfl rfl dJ12_init_3_13 ?_
        refine rb_aload_n C dJ12_init_3_16 rfl 0 rfl ?_
        obtain ⟨v_37, e_38, hf⟩ := rb_bd hf
        refine rb_hso C q618 q619 e_38 dJ12_init_3_17 ?_
        cases v_37 with
        | none =>
          dsimp only at hf
          obtain ⟨h_39, e_40, hf⟩ := rb_bd hf
          refine rb_hput C fw_J12_24_X6 e_40 rfl rfl dJ12_init_3_20 ?_
          refine rb_iload C dJ12_init_3_23 4 rfl ?_
          refine rb_if_eq (tgt := 36) C dJ12_init_3_25 (by decide) (fun c_41 => ?_) (fun c_41 => ?_)
          · have hf := (if_pos c_41).symm.trans hf
            refine rb_aload_n C dJ12_init_3_36 rfl 0 rfl ?_
            refine rb_null C dJ12_init_3_37 ?_
            obtain ⟨h_43, e_44, hf⟩ := rb_bd hf
            refine rb_hput C fw_J12_17_X6 e_44 rfl rfl dJ12_init_3_38 ?_
            refine rb_aload_n C dJ12_init_3_41 rfl 0 rfl ?_
            refine rb_aload_nN C dJ12_init_3_42 rfl 1 rfl ?_
            obtain ⟨h_45, e_46, hf⟩ := rb_bd hf
            refine rb_hput C fw_J12_31_X6 e_46 rfl rfl dJ12_init_3_43 ?_
            refine rb_aload_n C dJ12_init_3_46 rfl 0 rfl ?_
            refine rb_aload_nN C dJ12_init_3_47 rfl 2 rfl ?_
            obtain ⟨h_47, e_48, hf⟩ := rb_bd hf
            refine rb_hput C fw_J12_7_X6 e_48 rfl rfl dJ12_init_3_48 ?_
            refine rb_iload_n C dJ12_init_3_51 rfl 3 rfl ?_
            refine rb_if_ne (tgt := 60) C dJ12_init_3_52 (by decide) (fun c_49 => ?_) (fun c_49 => ?_)
            · have hf := (if_neg c_49).symm.trans hf
              cases hf
              exact rb_vret C rfl hb.e.2.1 hb.e.2.2 dJ12_init_3_60 ⟨rfl, rfl, hb.e.1⟩
            · have hf := (if_pos c_49).symm.trans hf
              refine rb_aload_n C dJ12_init_3_55 rfl 0 rfl ?_
              refine rb_null C dJ12_init_3_56 ?_
              obtain ⟨h_50, e_51, hf⟩ := rb_bd hf
              refine rb_hput C fw_J12_24_X6 e_51 rfl rfl dJ12_init_3_57 ?_
              cases hf
              exact rb_vret C rfl hb.e.2.1 hb.e.2.2 dJ12_init_3_60 ⟨rfl, rfl, hb.e.1⟩
          · have hf := (if_neg c_41).symm.trans hf
            refine rb_aload_n C dJ12_init_3_28 rfl 0 rfl ?_
            cases hf
        | some v_37_q =>
          dsimp only at hf
          obtain ⟨h_52, e_53, hf⟩ := rb_bd hf
          refine rb_hput C fw_J12_24_X6 e_53 rfl rfl dJ12_init_3_20 ?_
          refine rb_iload C dJ12_init_3_23 4 rfl ?_
          refine rb_if_eq (tgt := 36) C dJ12_init_3_25 (by decide) (fun c_54 => ?_) (fun c_54 => ?_)
          · have hf := (if_pos c_54).symm.trans hf
            refine rb_aload_n C dJ12_init_3_36 rfl 0 rfl ?_
            refine rb_null C dJ12_init_3_37 ?_
            obtain ⟨h_56, e_57, hf⟩ := rb_bd hf
            refine rb_hput C fw_J12_17_X6 e_57 rfl rfl dJ12_init_3_38 ?_
            refine rb_aload_n C dJ12_init_3_41 rfl 0 rfl ?_
            refine rb_aload_nN C dJ12_init_3_42 rfl 1 rfl ?_
            obtain ⟨h_58, e_59, hf⟩ := rb_bd hf
            refine rb_hput C fw_J12_31_X6 e_59 rfl rfl dJ12_init_3_43 ?_
            refine rb_aload_n C dJ12_init_3_46 rfl 0 rfl ?_
            refine rb_aload_nN C dJ12_init_3_47 rfl 2 rfl ?_
            obtain ⟨h_60, e_61, hf⟩ := rb_bd hf
            refine rb_hput C fw_J12_7_X6 e_61 rfl rfl dJ12_init_3_48 ?_
            refine rb_iload_n C dJ12_init_3_51 rfl 3 rfl ?_
            refine rb_if_ne (tgt := 60) C dJ12_init_3_52 (by decide) (fun c_62 => ?_) (fun c_62 => ?_)
            · have hf := (if_neg c_62).symm.trans hf
              cases hf
              exact rb_vret C rfl hb.e.2.1 hb.e.2.2 dJ12_init_3_60 ⟨rfl, rfl, hb.e.1⟩
            · have hf := (if_pos c_62).symm.trans hf
              refine rb_aload_n C dJ12_init_3_55 rfl 0 rfl ?_
              refine rb_null C dJ12_init_3_56 ?_
              obtain ⟨h_63, e_64, hf⟩ := rb_bd hf
              refine rb_hput C fw_J12_24_X6 e_64 rfl rfl dJ12_init_3_57 ?_
              cases hf
              exact rb_vret C rfl hb.e.2.1 hb.e.2.2 dJ12_init_3_60 ⟨rfl, rfl, hb.e.1⟩
          · have hf := (if_neg c_54).symm.trans hf
            refine rb_aload_n C dJ12_init_3_28 rfl 0 rfl ?_
            cases hf
    | some x2_q =>
      dsimp only at hf
      refine Ct.of rfl (Nat.le_of_ble_eq_true rfl) fun X C hnm => ?_
      have C : Cx Ev X RJ12 cJ12_init_3 5 none [] := C
      show Wa Ev X (rm_J12_init_3_X6 k s) 5 h n 0 0 (rb_MQ Ev X (rm_J12_init_3_X6 k s) (pX (.inl (none)) h' (n + k))) 0 [(0, .ref o), (1, .null), (2, .ref x2_q), (3, .int x3), (4, .int x4)] []
      have hb : Bd (n + k) k s n 0 0 k s := ⟨rfl, Nat.le_of_eq (Nat.zero_add _), Nat.le_of_eq (Nat.zero_add _)⟩
      refine rb_aload_n C dJ12_init_3_0 rfl 0 rfl ?_
      refine rb_objInit C q615 q123 q124 dJ12_init_3_1 (Nat.le_of_ble_eq_true rfl) (Nat.le_of_ble_eq_true rfl) ?_
      refine rb_aload_n C dJ12_init_3_4 rfl 0 rfl ?_
      refine rb_aload_n C dJ12_init_3_5 rfl 0 rfl ?_
      obtain ⟨h_65, e_66, hf⟩ := rb_bd hf
      refine rb_hput C fw_J12_7_X6 e_66 rfl rfl dJ12_init_3_6 ?_
      refine rb_aload_n C dJ12_init_3_9 rfl 0 rfl ?_
      obtain ⟨v_67, e_68, hf⟩ := rb_bd hf
      refine rb_hso C q616 q617 e_68 dJ12_init_3_10 ?_
      cases v_67 with
      | none =>
        dsimp only at hf
        obtain ⟨h_69, e_70, hf⟩ := rb_bd hf
        refine rb_hput C fw_J12_17_X6 e_70 rfl rfl dJ12_init_3_13 ?_
        refine rb_aload_n C dJ12_init_3_16 rfl 0 rfl ?_
        obtain ⟨v_71, e_72, hf⟩ := rb_bd hf
        refine rb_hso C q618 q619 e_72 dJ12_init_3_17 ?_
        cases v_71 with
        | none =>
          dsimp only at hf
          obtain ⟨h_73, e_74, hf⟩ := rb_bd hf
          refine rb_hput C fw_J12_24_X6 e_74 rfl rfl dJ12_init_3_20 ?_
          refine rb_iload C dJ12_init_3_23 4 rfl ?_
          refine rb_if_eq (tgt := 36) C dJ12_init_3_25 (by decide) (fun c_75 => ?_) (fun c_75 => ?_)
          · have hf := (if_pos c_75).symm.trans hf
            refine rb_aload_n C dJ12_init_3_36 rfl 0 rfl ?_
            refine rb_null C dJ12_init_3_37 ?_
            obtain ⟨h_77, e_78, hf⟩ := rb_bd hf
            refine rb_hput C fw_J12_17_X6 e_78 rfl rfl dJ12_init_3_38 ?_
            refine rb_aload_n C dJ12_init_3_41 rfl 0 rfl ?_
            refine rb_aload_nN C dJ12_init_3_42 rfl 1 rfl ?_
            obtain ⟨h_79, e_80, hf⟩ := rb_bd hf
            refine rb_hput C fw_J12_31_X6 e_80 rfl rfl dJ12_init_3_43 ?_
            refine rb_aload_n C dJ12_init_3_46 rfl 0 rfl ?_
            refine rb_aload_n C dJ12_init_3_47 rfl 2 rfl ?_
            obtain ⟨h_81, e_82, hf⟩ := rb_bd hf
            refine rb_hput C fw_J12_7_X6 e_82 rfl rfl dJ12_init_3_48 ?_
            refine rb_iload_n C dJ12_init_3_51 rfl 3 rfl ?_
            refine rb_if_ne (tgt := 60) C dJ12_init_3_52 (by decide) (fun c_83 => ?_) (fun c_83 => ?_)
            · have hf := (if_neg c_83).symm.trans hf
              cases hf
              exact rb_vret C rfl hb.e.2.1 hb.e.2.2 dJ12_init_3_60 ⟨rfl, rfl, hb.e.1⟩
            · have hf := (if_pos c_83).symm.trans hf
              refine rb_aload_n C dJ12_init_3_55 rfl 0 rfl ?_
              refine rb_null C dJ12_init_3_56 ?_
              obtain ⟨h_84, e_85, hf⟩ := rb_bd hf
              refine rb_hput C fw_J12_24_X6 e_85 rfl rfl dJ12_init_3_57 ?_
              cases hf
              exact rb_vret C rfl hb.e.2.1 hb.e.2.2 dJ12_init_3_60 ⟨rfl, rfl, hb.e.1⟩
          · have hf := (if_neg c_75).symm.trans hf
            refine rb_aload_n C dJ12_init_3_28 rfl 0 rfl ?_
            cases hf
        | some v_71_q =>
          dsimp only at hf
          obtain ⟨h_86, e_87, hf⟩ := rb_bd hf
          refine rb_hput C fw_J12_24_X6 e_87 rfl rfl dJ12_init_3_20 ?_
          refine rb_iload C dJ12_init_3_23 4 rfl ?_
          refine rb_if_eq (tgt := 36) C dJ12_init_3_25 (by decide) (fun c_88 => ?_) (fun c_88 => ?_)
          · have hf := (if_pos c_88).symm.trans hf
            refine rb_aload_n C dJ12_init_3_36 rfl 0 rfl ?_
            refine rb_null C dJ12_init_3_37 ?_
            obtain ⟨h_90, e_91, hf⟩ := rb_bd hf
            refine rb_hput C fw_J12_17_X6 e_91 rfl rfl dJ12_init_3_38 ?_
            refine rb_aload_n C dJ12_init_3_41 rfl 0 rfl ?_
            refine rb_aload_nN C dJ12_init_3_42 rfl 1 rfl ?_
            obtain ⟨h_92, e_93, hf⟩ := rb_bd hf
            refine rb_hput C fw_J12_31_X6 e_93 rfl rfl dJ12_init_3_43 ?_
            refine rb_aload_n C dJ12_init_3_46 rfl 0 rfl ?_
            refine rb_aload_n C dJ12_init_3_47 rfl 2 rfl ?_
            obtain ⟨h_94, e_95, hf⟩ := rb_bd hf
            refine rb_hput C fw_J12_7_X6 e_95 rfl rfl dJ12_init_3_48 ?_
            refine rb_iload_n C dJ12_init_3_51 rfl 3 rfl ?_
            refine rb_if_ne (tgt := 60) C dJ12_init_3_52 (by decide) (fun c_96 => ?_) (fun c_96 => ?_)
            · have hf := (if_neg c_96).symm.trans hf
              cases hf
              exact rb_vret C rfl hb.e.2.1 hb.e.2.2 dJ12_init_3_60 ⟨rfl, rfl, hb.e.1⟩
            · have hf := (if_pos c_96).symm.trans hf
              refine rb_aload_n C dJ12_init_3_55 rfl 0 rfl ?_
              refine rb_null C dJ12_init_3_56 ?_
              obtain ⟨h_97, e_98, hf⟩ := rb_bd hf
              refine rb_hput C fw_J12_24_X6 e_98 rfl rfl dJ12_init_3_57 ?_
              cases hf
              exact rb_vret C rfl hb.e.2.1 hb.e.2.2 dJ12_init_3_60 ⟨rfl, rfl, hb.e.1⟩
          · have hf := (if_neg c_88).symm.trans hf
            refine rb_aload_n C dJ12_init_3_28 rfl 0 rfl ?_
            cases hf
      | some v_67_q =>
        dsimp only at hf
        obtain ⟨h_99, e_100, hf⟩ := rb_bd hf
        refine rb_hput C fw_J12_17_X6 e_100 rfl rfl dJ12_init_3_13 ?_
        refine rb_aload_n C dJ12_init_3_16 rfl 0 rfl ?_
        obtain ⟨v_101, e_102, hf⟩ := rb_bd hf
        refine rb_hso C q618 q619 e_102 dJ12_init_3_17 ?_
        cases v_101 with
        | none =>
          dsimp only at hf
          obtain ⟨h_103, e_104, hf⟩ := rb_bd hf
          refine rb_hput C fw_J12_24_X6 e_104 rfl rfl dJ12_init_3_20 ?_
          refine rb_iload C dJ12_init_3_23 4 rfl ?_
          refine rb_if_eq (tgt := 36) C dJ12_init_3_25 (by decide) (fun c_105 => ?_) (fun c_105 => ?_)
          · have hf := (if_pos c_105).symm.trans hf
            refine rb_aload_n C dJ12_init_3_36 rfl 0 rfl ?_
            refine rb_null C dJ12_init_3_37 ?_
            obtain ⟨h_107, e_108, hf⟩ := rb_bd hf
            refine rb_hput C fw_J12_17_X6 e_108 rfl rfl dJ12_init_3_38 ?_
            refine rb_aload_n C dJ12_init_3_41 rfl 0 rfl ?_
            refine rb_aload_nN C dJ12_init_3_42 rfl 1 rfl ?_
            obtain ⟨h_109, e_110, hf⟩ := rb_bd hf
            refine rb_hput C fw_J12_31_X6 e_110 rfl rfl dJ12_init_3_43 ?_
            refine rb_aload_n C dJ12_init_3_46 rfl 0 rfl ?_
            refine rb_aload_n C dJ12_init_3_47 rfl 2 rfl ?_
            obtain ⟨h_111, e_112, hf⟩ := rb_bd hf
            refine rb_hput C fw_J12_7_X6 e_112 rfl rfl dJ12_init_3_48 ?_
            refine rb_iload_n C dJ12_init_3_51 rfl 3 rfl ?_
            refine rb_if_ne (tgt := 60) C dJ12_init_3_52 (by decide) (fun c_113 => ?_) (fun c_113 => ?_)
            · have hf := (if_neg c_113).symm.trans hf
              cases hf
              exact rb_vret C rfl hb.e.2.1 hb.e.2.2 dJ12_init_3_60 ⟨rfl, rfl, hb.e.1⟩
            · have hf := (if_pos c_113).symm.trans hf
              refine rb_aload_n C dJ12_init_3_55 rfl 0 rfl ?_
              refine rb_null C dJ12_init_3_56 ?_
              obtain ⟨h_114, e_115, hf⟩ := rb_bd hf
              refine rb_hput C fw_J12_24_X6 e_115 rfl rfl dJ12_init_3_57 ?_
              cases hf
              exact rb_vret C rfl hb.e.2.1 hb.e.2.2 dJ12_init_3_60 ⟨rfl, rfl, hb.e.1⟩
          · have hf := (if_neg c_105).symm.trans hf
            refine rb_aload_n C dJ12_init_3_28 rfl 0 rfl ?_
            cases hf
        | some v_101_q =>
          dsimp only at hf
          obtain ⟨h_116, e_117, hf⟩ := rb_bd hf
          refine rb_hput C fw_J12_24_X6 e_117 rfl rfl dJ12_init_3_20 ?_
          refine rb_iload C dJ12_init_3_23 4 rfl ?_
          refine rb_if_eq (tgt := 36) C dJ12_init_3_25 (by decide) (fun c_118 => ?_) (fun c_118 => ?_)
          · have hf := (if_pos c_118).symm.trans hf
            refine rb_aload_n C dJ12_init_3_36 rfl 0 rfl ?_
            refine rb_null C dJ12_init_3_37 ?_
            obtain ⟨h_120, e_121, hf⟩ := rb_bd hf
            refine rb_hput C fw_J12_17_X6 e_121 rfl rfl dJ12_init_3_38 ?_
            refine rb_aload_n C dJ12_init_3_41 rfl 0 rfl ?_
            refine rb_aload_nN C dJ12_init_3_42 rfl 1 rfl ?_
            obtain ⟨h_122, e_123, hf⟩ := rb_bd hf
            refine rb_hput C fw_J12_31_X6 e_123 rfl rfl dJ12_init_3_43 ?_
            refine rb_aload_n C dJ12_init_3_46 rfl 0 rfl ?_
            refine rb_aload_n C dJ12_init_3_47 rfl 2 rfl ?_
            obtain ⟨h_124, e_125, hf⟩ := rb_bd hf
            refine rb_hput C fw_J12_7_X6 e_125 rfl rfl dJ12_init_3_48 ?_
            refine rb_iload_n C dJ12_init_3_51 rfl 3 rfl ?_
            refine rb_if_ne (tgt := 60) C dJ12_init_3_52 (by decide) (fun c_126 => ?_) (fun c_126 => ?_)
            · have hf := (if_neg c_126).symm.trans hf
              cases hf
              exact rb_vret C rfl hb.e.2.1 hb.e.2.2 dJ12_init_3_60 ⟨rfl, rfl, hb.e.1⟩
            · have hf := (if_pos c_126).symm.trans hf
              refine rb_aload_n C dJ12_init_3_55 rfl 0 rfl ?_
              refine rb_null C dJ12_init_3_56 ?_
              obtain ⟨h_127, e_128, hf⟩ := rb_bd hf
              refine rb_hput C fw_J12_24_X6 e_128 rfl rfl dJ12_init_3_57 ?_
              cases hf
              exact rb_vret C rfl hb.e.2.1 hb.e.2.2 dJ12_init_3_60 ⟨rfl, rfl, hb.e.1⟩
          · have hf := (if_neg c_118).symm.trans hf
            refine rb_aload_n C dJ12_init_3_28 rfl 0 rfl ?_
            cases hf
  | some x1_q =>
    dsimp only at hf
    cases x2 with
    | none =>
      dsimp only at hf
      refine Ct.of rfl (Nat.le_of_ble_eq_true rfl) fun X C hnm => ?_
      have C : Cx Ev X RJ12 cJ12_init_3 5 none [] := C
      show Wa Ev X (rm_J12_init_3_X6 k s) 5 h n 0 0 (rb_MQ Ev X (rm_J12_init_3_X6 k s) (pX (.inl (none)) h' (n + k))) 0 [(0, .ref o), (1, .ref x1_q), (2, .null), (3, .int x3), (4, .int x4)] []
      have hb : Bd (n + k) k s n 0 0 k s := ⟨rfl, Nat.le_of_eq (Nat.zero_add _), Nat.le_of_eq (Nat.zero_add _)⟩
      refine rb_aload_n C dJ12_init_3_0 rfl 0 rfl ?_
      refine rb_objInit C q615 q123 q124 dJ12_init_3_1 (Nat.le_of_ble_eq_true rfl) (Nat.le_of_ble_eq_true rfl) ?_
      refine rb_aload_n C dJ12_init_3_4 rfl 0 rfl ?_
      refine rb_aload_n C dJ12_init_3_5 rfl 0 rfl ?_
      obtain ⟨h_129, e_130, hf⟩ := rb_bd hf
      refine rb_hput C fw_J12_7_X6 e_130 rfl rfl dJ12_init_3_6 ?_
      refine rb_aload_n C dJ12_init_3_9 rfl 0 rfl ?_
      obtain ⟨v_131, e_132, hf⟩ := rb_bd hf
      refine rb_hso C q616 q617 e_132 dJ12_init_3_10 ?_
      cases v_131 with
      | none =>
        dsimp only at hf
        obtain ⟨h_133, e_134, hf⟩ := rb_bd hf
        refine rb_hput C fw_J12_17_X6 e_134 rfl rfl dJ12_init_3_13 ?_
        refine rb_aload_n C dJ12_init_3_16 rfl 0 rfl ?_
        obtain ⟨v_135, e_136, hf⟩ := rb_bd hf
        refine rb_hso C q618 q619 e_136 dJ12_init_3_17 ?_
        cases v_135 with
        | none =>
          dsimp only at hf
          obtain ⟨h_137, e_138, hf⟩ := rb_bd hf
          refine rb_hput C fw_J12_24_X6 e_138 rfl rfl dJ12_init_3_20 ?_
          refine rb_iload C dJ12_init_3_23 4 rfl ?_
          refine rb_if_eq (tgt := 36) C dJ12_init_3_25 (by decide) (fun c_139 => ?_) (fun c_139 => ?_)
          · have hf := (if_pos c_139).symm.trans hf
            refine rb_aload_n C dJ12_init_3_36 rfl 0 rfl ?_
            refine rb_null C dJ12_init_3_37 ?_
            obtain ⟨h_141, e_142, hf⟩ := rb_bd hf
            refine rb_hput C fw_J12_17_X6 e_142 rfl rfl dJ12_init_3_38 ?_
            refine rb_aload_n C dJ12_init_3_41 rfl 0 rfl ?_
            refine rb_aload_n C dJ12_init_3_42 rfl 1 rfl ?_
            obtain ⟨h_143, e_144, hf⟩ := rb_bd hf
            refine rb_hput C fw_J12_31_X6 e_144 rfl rfl dJ12_init_3_43 ?_
            refine rb_aload_n C dJ12_init_3_46 rfl 0 rfl ?_
            refine rb_aload_nN C dJ12_init_3_47 rfl 2 rfl ?_
            obtain ⟨h_145, e_146, hf⟩ := rb_bd hf
            refine rb_hput C fw_J12_7_X6 e_146 rfl rfl dJ12_init_3_48 ?_
            refine rb_iload_n C dJ12_init_3_51 rfl 3 rfl ?_
            refine rb_if_ne (tgt := 60) C dJ12_init_3_52 (by decide) (fun c_147 => ?_) (fun c_147 => ?_)
            · have hf := (if_neg c_147).symm.trans hf
              cases hf
              exact rb_vret C rfl hb.e.2.1 hb.e.2.2 dJ12_init_3_60 ⟨rfl, rfl, hb.e.1⟩
            · have hf := (if_pos c_147).symm.trans hf
              refine rb_aload_n C dJ12_init_3_55 rfl 0 rfl ?_
              refine rb_null C dJ12_init_3_56 ?_
              obtain ⟨h_148, e_149, hf⟩ := rb_bd hf
              refine rb_hput C fw_J12_24_X6 e_149 rfl rfl dJ12_init_3_57 ?_
              cases hf
              exact rb_vret C rfl hb.e.2.1 hb.e.2.2 dJ12_init_3_60 ⟨rfl, rfl, hb.e.1⟩
          · have hf := (if_neg c_139).symm.trans hf
            refine rb_aload_n C dJ12_init_3_28 rfl 0 rfl ?_
            cases hf
        | some v_135_q =>
          dsimp only at hf
          obtain ⟨h_150, e_151, hf⟩ := rb_bd hf
          refine rb_hput C fw_J12_24_X6 e_151 rfl rfl dJ12_init_3_20 ?_
          refine rb_iload C dJ12_init_3_23 4 rfl ?_
          refine rb_if_eq (tgt := 36) C dJ12_init_3_25 (by decide) (fun c_152 => ?_) (fun c_152 => ?_)
          · have hf := (if_pos c_152).symm.trans hf
            refine rb_aload_n C dJ12_init_3_36 rfl 0 rfl ?_
            refine rb_null C dJ12_init_3_37 ?_
            obtain ⟨h_154, e_155, hf⟩ := rb_bd hf
            refine rb_hput C fw_J12_17_X6 e_155 rfl rfl dJ12_init_3_38 ?_
            refine rb_aload_n C dJ12_init_3_41 rfl 0 rfl ?_
            refine rb_aload_n C dJ12_init_3_42 rfl 1 rfl ?_
            obtain ⟨h_156, e_157, hf⟩ := rb_bd hf
            refine rb_hput C fw_J12_31_X6 e_157 rfl rfl dJ12_init_3_43 ?_
            refine rb_aload_n C dJ12_init_3_46 rfl 0 rfl ?_
            refine rb_aload_nN C dJ12_init_3_47 rfl 2 rfl ?_
            obtain ⟨h_158, e_159, hf⟩ := rb_bd hf
            refine rb_hput C fw_J12_7_X6 e_159 rfl rfl dJ12_init_3_48 ?_
            refine rb_iload_n C dJ12_init_3_51 rfl 3 rfl ?_
            refine rb_if_ne (tgt := 60) C dJ12_init_3_52 (by decide) (fun c_160 => ?_) (fun c_160 => ?_)
            · have hf := (if_neg c_160).symm.trans hf
              cases hf
              exact rb_vret C rfl hb.e.2.1 hb.e.2.2 dJ12_init_3_60 ⟨rfl, rfl, hb.e.1⟩
            · have hf := (if_pos c_160).symm.trans hf
              refine rb_aload_n C dJ12_init_3_55 rfl 0 rfl ?_
              refine rb_null C dJ12_init_3_56 ?_
              obtain ⟨h_161, e_162, hf⟩ := rb_bd hf
              refine rb_hput C fw_J12_24_X6 e_162 rfl rfl dJ12_init_3_57 ?_
              cases hf
              exact rb_vret C rfl hb.e.2.1 hb.e.2.2 dJ12_init_3_60 ⟨rfl, rfl, hb.e.1⟩
          · have hf := (if_neg c_152).symm.trans hf
            refine rb_aload_n C dJ12_init_3_28 rfl 0 rfl ?_
            cases hf
      | some v_131_q =>
        dsimp only at hf
        obtain ⟨h_163, e_164, hf⟩ := rb_bd hf
        refine rb_hput C fw_J12_17_X6 e_164 rfl rfl dJ12_init_3_13 ?_
        refine rb_aload_n C dJ12_init_3_16 rfl 0 rfl ?_
        obtain ⟨v_165, e_166, hf⟩ := rb_bd hf
        refine rb_hso C q618 q619 e_166 dJ12_init_3_17 ?_
        cases v_165 with
        | none =>
          dsimp only at hf
          obtain ⟨h_167, e_168, hf⟩ := rb_bd hf
          refine rb_hput C fw_J12_24_X6 e_168 rfl rfl dJ12_init_3_20 ?_
          refine rb_iload C dJ12_init_3_23 4 rfl ?_
          refine rb_if_eq (tgt := 36) C dJ12_init_3_25 (by decide) (fun c_169 => ?_) (fun c_169 => ?_)
          · have hf := (if_pos c_169).symm.trans hf
            refine rb_aload_n C dJ12_init_3_36 rfl 0 rfl ?_
            refine rb_null C dJ12_init_3_37 ?_
            obtain ⟨h_171, e_172, hf⟩ := rb_bd hf
            refine rb_hput C fw_J12_17_X6 e_172 rfl rfl dJ12_init_3_38 ?_
            refine rb_aload_n C dJ12_init_3_41 rfl 0 rfl ?_
            refine rb_aload_n C dJ12_init_3_42 rfl 1 rfl ?_
            obtain ⟨h_173, e_174, hf⟩ := rb_bd hf
            refine rb_hput C fw_J12_31_X6 e_174 rfl rfl dJ12_init_3_43 ?_
            refine rb_aload_n C dJ12_init_3_46 rfl 0 rfl ?_
            refine rb_aload_nN C dJ12_init_3_47 rfl 2 rfl ?_
            obtain ⟨h_175, e_176, hf⟩ := rb_bd hf
            refine rb_hput C fw_J12_7_X6 e_176 rfl rfl dJ12_init_3_48 ?_
            refine rb_iload_n C dJ12_init_3_51 rfl 3 rfl ?_
            refine rb_if_ne (tgt := 60) C dJ12_init_3_52 (by decide) (fun c_177 => ?_) (fun c_177 => ?_)
            · have hf := (if_neg c_177).symm.trans hf
              cases hf
              exact rb_vret C rfl hb.e.2.1 hb.e.2.2 dJ12_init_3_60 ⟨rfl, rfl, hb.e.1⟩
            · have hf := (if_pos c_177).symm.trans hf
              refine rb_aload_n C dJ12_init_3_55 rfl 0 rfl ?_
              refine rb_null C dJ12_init_3_56 ?_
              obtain ⟨h_178, e_179, hf⟩ := rb_bd hf
              refine rb_hput C fw_J12_24_X6 e_179 rfl rfl dJ12_init_3_57 ?_
              cases hf
              exact rb_vret C rfl hb.e.2.1 hb.e.2.2 dJ12_init_3_60 ⟨rfl, rfl, hb.e.1⟩
          · have hf := (if_neg c_169).symm.trans hf
            refine rb_aload_n C dJ12_init_3_28 rfl 0 rfl ?_
            cases hf
        | some v_165_q =>
          dsimp only at hf
          obtain ⟨h_180, e_181, hf⟩ := rb_bd hf
          refine rb_hput C fw_J12_24_X6 e_181 rfl rfl dJ12_init_3_20 ?_
          refine rb_iload C dJ12_init_3_23 4 rfl ?_
          refine rb_if_eq (tgt := 36) C dJ12_init_3_25 (by decide) (fun c_182 => ?_) (fun c_182 => ?_)
          · have hf := (if_pos c_182).symm.trans hf
            refine rb_aload_n C dJ12_init_3_36 rfl 0 rfl ?_
            refine rb_null C dJ12_init_3_37 ?_
            obtain ⟨h_184, e_185, hf⟩ := rb_bd hf
            refine rb_hput C fw_J12_17_X6 e_185 rfl rfl dJ12_init_3_38 ?_
            refine rb_aload_n C dJ12_init_3_41 rfl 0 rfl ?_
            refine rb_aload_n C dJ12_init_3_42 rfl 1 rfl ?_
            obtain ⟨h_186, e_187, hf⟩ := rb_bd hf
            refine rb_hput C fw_J12_31_X6 e_187 rfl rfl dJ12_init_3_43 ?_
            refine rb_aload_n C dJ12_init_3_46 rfl 0 rfl ?_
            refine rb_aload_nN C dJ12_init_3_47 rfl 2 rfl ?_
            obtain ⟨h_188, e_189, hf⟩ := rb_bd hf
            refine rb_hput C fw_J12_7_X6 e_189 rfl rfl dJ12_init_3_48 ?_
            refine rb_iload_n C dJ12_init_3_51 rfl 3 rfl ?_
            refine rb_if_ne (tgt := 60) C dJ12_init_3_52 (by decide) (fun c_190 => ?_) (fun c_190 => ?_)
            · have hf := (if_neg c_190).symm.trans hf
              cases hf
              exact rb_vret C rfl hb.e.2.1 hb.e.2.2 dJ12_init_3_60 ⟨rfl, rfl, hb.e.1⟩
            · have hf := (if_pos c_190).symm.trans hf
              refine rb_aload_n C dJ12_init_3_55 rfl 0 rfl ?_
              refine rb_null C dJ12_init_3_56 ?_
              obtain ⟨h_191, e_192, hf⟩ := rb_bd hf
              refine rb_hput C fw_J12_24_X6 e_192 rfl rfl dJ12_init_3_57 ?_
              cases hf
              exact rb_vret C rfl hb.e.2.1 hb.e.2.2 dJ12_init_3_60 ⟨rfl, rfl, hb.e.1⟩
          · have hf := (if_neg c_182).symm.trans hf
            refine rb_aload_n C dJ12_init_3_28 rfl 0 rfl ?_
            cases hf
    | some x2_q =>
      dsimp only at hf
      refine Ct.of rfl (Nat.le_of_ble_eq_true rfl) fun X C hnm => ?_
      have C : Cx Ev X RJ12 cJ12_init_3 5 none [] := C
      show Wa Ev X (rm_J12_init_3_X6 k s) 5 h n 0 0 (rb_MQ Ev X (rm_J12_init_3_X6 k s) (pX (.inl (none)) h' (n + k))) 0 [(0, .ref o), (1, .ref x1_q), (2, .ref x2_q), (3, .int x3), (4, .int x4)] []
      have hb : Bd (n + k) k s n 0 0 k s := ⟨rfl, Nat.le_of_eq (Nat.zero_add _), Nat.le_of_eq (Nat.zero_add _)⟩
      refine rb_aload_n C dJ12_init_3_0 rfl 0 rfl ?_
      refine rb_objInit C q615 q123 q124 dJ12_init_3_1 (Nat.le_of_ble_eq_true rfl) (Nat.le_of_ble_eq_true rfl) ?_
      refine rb_aload_n C dJ12_init_3_4 rfl 0 rfl ?_
      refine rb_aload_n C dJ12_init_3_5 rfl 0 rfl ?_
      obtain ⟨h_193, e_194, hf⟩ := rb_bd hf
      refine rb_hput C fw_J12_7_X6 e_194 rfl rfl dJ12_init_3_6 ?_
      refine rb_aload_n C dJ12_init_3_9 rfl 0 rfl ?_
      obtain ⟨v_195, e_196, hf⟩ := rb_bd hf
      refine rb_hso C q616 q617 e_196 dJ12_init_3_10 ?_
      cases v_195 with
      | none =>
        dsimp only at hf
        obtain ⟨h_197, e_198, hf⟩ := rb_bd hf
        refine rb_hput C fw_J12_17_X6 e_198 rfl rfl dJ12_init_3_13 ?_
        refine rb_aload_n C dJ12_init_3_16 rfl 0 rfl ?_
        obtain ⟨v_199, e_200, hf⟩ := rb_bd hf
        refine rb_hso C q618 q619 e_200 dJ12_init_3_17 ?_
        cases v_199 with
        | none =>
          dsimp only at hf
          obtain ⟨h_201, e_202, hf⟩ := rb_bd hf
          refine rb_hput C fw_J12_24_X6 e_202 rfl rfl dJ12_init_3_20 ?_
          refine rb_iload C dJ12_init_3_23 4 rfl ?_
          refine rb_if_eq (tgt := 36) C dJ12_init_3_25 (by decide) (fun c_203 => ?_) (fun c_203 => ?_)
          · have hf := (if_pos c_203).symm.trans hf
            refine rb_aload_n C dJ12_init_3_36 rfl 0 rfl ?_
            refine rb_null C dJ12_init_3_37 ?_
            obtain ⟨h_205, e_206, hf⟩ := rb_bd hf
            refine rb_hput C fw_J12_17_X6 e_206 rfl rfl dJ12_init_3_38 ?_
            refine rb_aload_n C dJ12_init_3_41 rfl 0 rfl ?_
            refine rb_aload_n C dJ12_init_3_42 rfl 1 rfl ?_
            obtain ⟨h_207, e_208, hf⟩ := rb_bd hf
            refine rb_hput C fw_J12_31_X6 e_208 rfl rfl dJ12_init_3_43 ?_
            refine rb_aload_n C dJ12_init_3_46 rfl 0 rfl ?_
            refine rb_aload_n C dJ12_init_3_47 rfl 2 rfl ?_
            obtain ⟨h_209, e_210, hf⟩ := rb_bd hf
            refine rb_hput C fw_J12_7_X6 e_210 rfl rfl dJ12_init_3_48 ?_
            refine rb_iload_n C dJ12_init_3_51 rfl 3 rfl ?_
            refine rb_if_ne (tgt := 60) C dJ12_init_3_52 (by decide) (fun c_211 => ?_) (fun c_211 => ?_)
            · have hf := (if_neg c_211).symm.trans hf
              cases hf
              exact rb_vret C rfl hb.e.2.1 hb.e.2.2 dJ12_init_3_60 ⟨rfl, rfl, hb.e.1⟩
            · have hf := (if_pos c_211).symm.trans hf
              refine rb_aload_n C dJ12_init_3_55 rfl 0 rfl ?_
              refine rb_null C dJ12_init_3_56 ?_
              obtain ⟨h_212, e_213, hf⟩ := rb_bd hf
              refine rb_hput C fw_J12_24_X6 e_213 rfl rfl dJ12_init_3_57 ?_
              cases hf
              exact rb_vret C rfl hb.e.2.1 hb.e.2.2 dJ12_init_3_60 ⟨rfl, rfl, hb.e.1⟩
          · have hf := (if_neg c_203).symm.trans hf
            refine rb_aload_n C dJ12_init_3_28 rfl 0 rfl ?_
            cases hf
        | some v_199_q =>
          dsimp only at hf
          obtain ⟨h_214, e_215, hf⟩ := rb_bd hf
          refine rb_hput C fw_J12_24_X6 e_215 rfl rfl dJ12_init_3_20 ?_
          refine rb_iload C dJ12_init_3_23 4 rfl ?_
          refine rb_if_eq (tgt := 36) C dJ12_init_3_25 (by decide) (fun c_216 => ?_) (fun c_216 => ?_)
          · have hf := (if_pos c_216).symm.trans hf
            refine rb_aload_n C dJ12_init_3_36 rfl 0 rfl ?_
            refine rb_null C dJ12_init_3_37 ?_
            obtain ⟨h_218, e_219, hf⟩ := rb_bd hf
            refine rb_hput C fw_J12_17_X6 e_219 rfl rfl dJ12_init_3_38 ?_
            refine rb_aload_n C dJ12_init_3_41 rfl 0 rfl ?_
            refine rb_aload_n C dJ12_init_3_42 rfl 1 rfl ?_
            obtain ⟨h_220, e_221, hf⟩ := rb_bd hf
            refine rb_hput C fw_J12_31_X6 e_221 rfl rfl dJ12_init_3_43 ?_
            refine rb_aload_n C dJ12_init_3_46 rfl 0 rfl ?_
            refine rb_aload_n C dJ12_init_3_47 rfl 2 rfl ?_
            obtain ⟨h_222, e_223, hf⟩ := rb_bd hf
            refine rb_hput C fw_J12_7_X6 e_223 rfl rfl dJ12_init_3_48 ?_
            refine rb_iload_n C dJ12_init_3_51 rfl 3 rfl ?_
            refine rb_if_ne (tgt := 60) C dJ12_init_3_52 (by decide) (fun c_224 => ?_) (fun c_224 => ?_)
            · have hf := (if_neg c_224).symm.trans hf
              cases hf
              exact rb_vret C rfl hb.e.2.1 hb.e.2.2 dJ12_init_3_60 ⟨rfl, rfl, hb.e.1⟩
            · have hf := (if_pos c_224).symm.trans hf
              refine rb_aload_n C dJ12_init_3_55 rfl 0 rfl ?_
              refine rb_null C dJ12_init_3_56 ?_
              obtain ⟨h_225, e_226, hf⟩ := rb_bd hf
              refine rb_hput C fw_J12_24_X6 e_226 rfl rfl dJ12_init_3_57 ?_
              cases hf
              exact rb_vret C rfl hb.e.2.1 hb.e.2.2 dJ12_init_3_60 ⟨rfl, rfl, hb.e.1⟩
          · have hf := (if_neg c_216).symm.trans hf
            refine rb_aload_n C dJ12_init_3_28 rfl 0 rfl ?_
            cases hf
      | some v_195_q =>
        dsimp only at hf
        obtain ⟨h_227, e_228, hf⟩ := rb_bd hf
        refine rb_hput C fw_J12_17_X6 e_228 rfl rfl dJ12_init_3_13 ?_
        refine rb_aload_n C dJ12_init_3_16 rfl 0 rfl ?_
        obtain ⟨v_229, e_230, hf⟩ := rb_bd hf
        refine rb_hso C q618 q619 e_230 dJ12_init_3_17 ?_
        cases v_229 with
        | none =>
          dsimp only at hf
          obtain ⟨h_231, e_232, hf⟩ := rb_bd hf
          refine rb_hput C fw_J12_24_X6 e_232 rfl rfl dJ12_init_3_20 ?_
          refine rb_iload C dJ12_init_3_23 4 rfl ?_
          refine rb_if_eq (tgt := 36) C dJ12_init_3_25 (by decide) (fun c_233 => ?_) (fun c_233 => ?_)
          · have hf := (if_pos c_233).symm.trans hf
            refine rb_aload_n C dJ12_init_3_36 rfl 0 rfl ?_
            refine rb_null C dJ12_init_3_37 ?_
            obtain ⟨h_235, e_236, hf⟩ := rb_bd hf
            refine rb_hput C fw_J12_17_X6 e_236 rfl rfl dJ12_init_3_38 ?_
            refine rb_aload_n C dJ12_init_3_41 rfl 0 rfl ?_
            refine rb_aload_n C dJ12_init_3_42 rfl 1 rfl ?_
            obtain ⟨h_237, e_238, hf⟩ := rb_bd hf
            refine rb_hput C fw_J12_31_X6 e_238 rfl rfl dJ12_init_3_43 ?_
            refine rb_aload_n C dJ12_init_3_46 rfl 0 rfl ?_
            refine rb_aload_n C dJ12_init_3_47 rfl 2 rfl ?_
            obtain ⟨h_239, e_240, hf⟩ := rb_bd hf
            refine rb_hput C fw_J12_7_X6 e_240 rfl rfl dJ12_init_3_48 ?_
            refine rb_iload_n C dJ12_init_3_51 rfl 3 rfl ?_
            refine rb_if_ne (tgt := 60) C dJ12_init_3_52 (by decide) (fun c_241 => ?_) (fun c_241 => ?_)
            · have hf := (if_neg c_241).symm.trans hf
              cases hf
              exact rb_vret C rfl hb.e.2.1 hb.e.2.2 dJ12_init_3_60 ⟨rfl, rfl, hb.e.1⟩
            · have hf := (if_pos c_241).symm.trans hf
              refine rb_aload_n C dJ12_init_3_55 rfl 0 rfl ?_
              refine rb_null C dJ12_init_3_56 ?_
              obtain ⟨h_242, e_243, hf⟩ := rb_bd hf
              refine rb_hput C fw_J12_24_X6 e_243 rfl rfl dJ12_init_3_57 ?_
              cases hf
              exact rb_vret C rfl hb.e.2.1 hb.e.2.2 dJ12_init_3_60 ⟨rfl, rfl, hb.e.1⟩
          · have hf := (if_neg c_233).symm.trans hf
            refine rb_aload_n C dJ12_init_3_28 rfl 0 rfl ?_
            cases hf
        | some v_229_q =>
          dsimp only at hf
          obtain ⟨h_244, e_245, hf⟩ := rb_bd hf
          refine rb_hput C fw_J12_24_X6 e_245 rfl rfl dJ12_init_3_20 ?_
          refine rb_iload C dJ12_init_3_23 4 rfl ?_
          refine rb_if_eq (tgt := 36) C dJ12_init_3_25 (by decide) (fun c_246 => ?_) (fun c_246 => ?_)
          · have hf := (if_pos c_246).symm.trans hf
            refine rb_aload_n C dJ12_init_3_36 rfl 0 rfl ?_
            refine rb_null C dJ12_init_3_37 ?_
            obtain ⟨h_248, e_249, hf⟩ := rb_bd hf
            refine rb_hput C fw_J12_17_X6 e_249 rfl rfl dJ12_init_3_38 ?_
            refine rb_aload_n C dJ12_init_3_41 rfl 0 rfl ?_
            refine rb_aload_n C dJ12_init_3_42 rfl 1 rfl ?_
            obtain ⟨h_250, e_251, hf⟩ := rb_bd hf
            refine rb_hput C fw_J12_31_X6 e_251 rfl rfl dJ12_init_3_43 ?_
            refine rb_aload_n C dJ12_init_3_46 rfl 0 rfl ?_
            refine rb_aload_n C dJ12_init_3_47 rfl 2 rfl ?_
            obtain ⟨h_252, e_253, hf⟩ := rb_bd hf
            refine rb_hput C fw_J12_7_X6 e_253 rfl rfl dJ12_init_3_48 ?_
            refine rb_iload_n C dJ12_init_3_51 rfl 3 rfl ?_
            refine rb_if_ne (tgt := 60) C dJ12_init_3_52 (by decide) (fun c_254 => ?_) (fun c_254 => ?_)
            · have hf := (if_neg c_254).symm.trans hf
              cases hf
              exact rb_vret C rfl hb.e.2.1 hb.e.2.2 dJ12_init_3_60 ⟨rfl, rfl, hb.e.1⟩
            · have hf := (if_pos c_254).symm.trans hf
              refine rb_aload_n C dJ12_init_3_55 rfl 0 rfl ?_
              refine rb_null C dJ12_init_3_56 ?_
              obtain ⟨h_255, e_256, hf⟩ := rb_bd hf
              refine rb_hput C fw_J12_24_X6 e_256 rfl rfl dJ12_init_3_57 ?_
              cases hf
              exact rb_vret C rfl hb.e.2.1 hb.e.2.2 dJ12_init_3_60 ⟨rfl, rfl, hb.e.1⟩
          · have hf := (if_neg c_246).symm.trans hf
            refine rb_aload_n C dJ12_init_3_28 rfl 0 rfl ?_
            cases hf
def f_J13_init_3_X6 (Ev : rb_E) (h : AH) (n : Nat) (o : Nat) (x1 : Option Nat) (x2 : Option Nat) (x3 : Int32) (x4 : Int32) : Option (Unit × AH × Nat × Nat) := (match x1 with | none => (match x2 with | none => ((f_J12_init_3_X6 Ev h n o none none x3 x4).bind fun (r_2, h_3, k_4, s_5) => (ad k_4 s_5 (some ((), h_3, 0, 0)))) | some x2_q => ((f_J12_init_3_X6 Ev h n o none (some x2_q) x3 x4).bind fun (r_12, h_13, k_14, s_15) => (ad k_14 s_15 (some ((), h_13, 0, 0))))) | some x1_q => (match x2 with | none => ((f_J12_init_3_X6 Ev h n o (some x1_q) none x3 x4).bind fun (r_22, h_23, k_24, s_25) => (ad k_24 s_25 (some ((), h_23, 0, 0)))) | some x2_q => ((f_J12_init_3_X6 Ev h n o (some x1_q) (some x2_q) x3 x4).bind fun (r_32, h_33, k_34, s_35) => (ad k_34 s_35 (some ((), h_33, 0, 0))))))
abbrev rm_J13_init_3_X6 (k s : Nat) : Room := { frames := 2, cells := k, slots := s, locals := 64 }
set_option maxHeartbeats 4000000 in
theorem ct_J13_init_3_X6 (Ev : rb_E) (h : AH) (n : Nat) (o : Nat) (x1 : Option Nat) (x2 : Option Nat) (x3 : Int32) (x4 : Int32) (r : Unit) (h' : AH) (k s : Nat) (hf : f_J13_init_3_X6 Ev h n o x1 x2 x3 x4 = some (r, h', k, s)) : Ct Ev yJ13_init_3 (ws_ yJ13_init_3 cJ13_init_3 5 none) (rm_J13_init_3_X6 k s) [.ref o, va_rf x1, va_rf x2, .int x3, .int x4] h n (pX (.inl (none)) h' (n + k)) := by
  unfold f_J13_init_3_X6 at hf
  cases x1 with
  | none =>
    dsimp only at hf
    cases x2 with
    | none =>
      dsimp only at hf
      refine Ct.of rfl (Nat.le_of_ble_eq_true rfl) fun X C hnm => ?_
      have C : Cx Ev X RJ13 cJ13_init_3 5 none [] := C
      show Wa Ev X (rm_J13_init_3_X6 k s) 5 h n 0 0 (rb_MQ Ev X (rm_J13_init_3_X6 k s) (pX (.inl (none)) h' (n + k))) 0 [(0, .ref o), (1, .null), (2, .null), (3, .int x3), (4, .int x4)] []
      have hb : Bd (n + k) k s n 0 0 k s := ⟨rfl, Nat.le_of_eq (Nat.zero_add _), Nat.le_of_eq (Nat.zero_add _)⟩
      refine rb_aload_n C dJ13_init_3_0 rfl 0 rfl ?_
      refine rb_aload_nN C dJ13_init_3_1 rfl 1 rfl ?_
      refine rb_aload_nN C dJ13_init_3_2 rfl 2 rfl ?_
      refine rb_iload_n C dJ13_init_3_3 rfl 3 rfl ?_
      refine rb_iload C dJ13_init_3_4 4 rfl ?_
      obtain ⟨⟨r_2, h_3, k_4, s_5⟩, e_6, hf⟩ := rb_bd hf
      obtain ⟨a_9, b_10, hf, ea_7, eb_8⟩ := ad_at hf
      refine rb_callI (As := [.null, .null, .int x3, .int x4]) (rest := []) C mi_J12_init_3 si_J13_16 (ct_J12_init_3_X6 Ev h n o none none x3 x4 r_2 _ _ _ e_6) rfl rfl (Nat.le_of_ble_eq_true rfl) ⟨Nat.le_of_ble_eq_true rfl, Nat.le_of_ble_eq_true rfl, Bd.c1 hb ea_7, Bd.s1 hb eb_8⟩ dJ13_init_3_6 rb_xX (rb_kX (rb_w (kc := (0 + k_4)) (ks := (0 + s_5)) rfl rfl ?_))
      have hb := Bd.ade hb ea_7 eb_8
      cases hf
      exact rb_vret C rfl hb.e.2.1 hb.e.2.2 dJ13_init_3_9 ⟨rfl, rfl, hb.e.1⟩
    | some x2_q =>
      dsimp only at hf
      refine Ct.of rfl (Nat.le_of_ble_eq_true rfl) fun X C hnm => ?_
      have C : Cx Ev X RJ13 cJ13_init_3 5 none [] := C
      show Wa Ev X (rm_J13_init_3_X6 k s) 5 h n 0 0 (rb_MQ Ev X (rm_J13_init_3_X6 k s) (pX (.inl (none)) h' (n + k))) 0 [(0, .ref o), (1, .null), (2, .ref x2_q), (3, .int x3), (4, .int x4)] []
      have hb : Bd (n + k) k s n 0 0 k s := ⟨rfl, Nat.le_of_eq (Nat.zero_add _), Nat.le_of_eq (Nat.zero_add _)⟩
      refine rb_aload_n C dJ13_init_3_0 rfl 0 rfl ?_
      refine rb_aload_nN C dJ13_init_3_1 rfl 1 rfl ?_
      refine rb_aload_n C dJ13_init_3_2 rfl 2 rfl ?_
      refine rb_iload_n C dJ13_init_3_3 rfl 3 rfl ?_
      refine rb_iload C dJ13_init_3_4 4 rfl ?_
      obtain ⟨⟨r_12, h_13, k_14, s_15⟩, e_16, hf⟩ := rb_bd hf
      obtain ⟨a_19, b_20, hf, ea_17, eb_18⟩ := ad_at hf
      refine rb_callI (As := [.null, .ref x2_q, .int x3, .int x4]) (rest := []) C mi_J12_init_3 si_J13_16 (ct_J12_init_3_X6 Ev h n o none (some x2_q) x3 x4 r_12 _ _ _ e_16) rfl rfl (Nat.le_of_ble_eq_true rfl) ⟨Nat.le_of_ble_eq_true rfl, Nat.le_of_ble_eq_true rfl, Bd.c1 hb ea_17, Bd.s1 hb eb_18⟩ dJ13_init_3_6 rb_xX (rb_kX (rb_w (kc := (0 + k_14)) (ks := (0 + s_15)) rfl rfl ?_))
      have hb := Bd.ade hb ea_17 eb_18
      cases hf
      exact rb_vret C rfl hb.e.2.1 hb.e.2.2 dJ13_init_3_9 ⟨rfl, rfl, hb.e.1⟩
  | some x1_q =>
    dsimp only at hf
    cases x2 with
    | none =>
      dsimp only at hf
      refine Ct.of rfl (Nat.le_of_ble_eq_true rfl) fun X C hnm => ?_
      have C : Cx Ev X RJ13 cJ13_init_3 5 none [] := C
      show Wa Ev X (rm_J13_init_3_X6 k s) 5 h n 0 0 (rb_MQ Ev X (rm_J13_init_3_X6 k s) (pX (.inl (none)) h' (n + k))) 0 [(0, .ref o), (1, .ref x1_q), (2, .null), (3, .int x3), (4, .int x4)] []
      have hb : Bd (n + k) k s n 0 0 k s := ⟨rfl, Nat.le_of_eq (Nat.zero_add _), Nat.le_of_eq (Nat.zero_add _)⟩
      refine rb_aload_n C dJ13_init_3_0 rfl 0 rfl ?_
      refine rb_aload_n C dJ13_init_3_1 rfl 1 rfl ?_
      refine rb_aload_nN C dJ13_init_3_2 rfl 2 rfl ?_
      refine rb_iload_n C dJ13_init_3_3 rfl 3 rfl ?_
      refine rb_iload C dJ13_init_3_4 4 rfl ?_
      obtain ⟨⟨r_22, h_23, k_24, s_25⟩, e_26, hf⟩ := rb_bd hf
      obtain ⟨a_29, b_30, hf, ea_27, eb_28⟩ := ad_at hf
      refine rb_callI (As := [.ref x1_q, .null, .int x3, .int x4]) (rest := []) C mi_J12_init_3 si_J13_16 (ct_J12_init_3_X6 Ev h n o (some x1_q) none x3 x4 r_22 _ _ _ e_26) rfl rfl (Nat.le_of_ble_eq_true rfl) ⟨Nat.le_of_ble_eq_true rfl, Nat.le_of_ble_eq_true rfl, Bd.c1 hb ea_27, Bd.s1 hb eb_28⟩ dJ13_init_3_6 rb_xX (rb_kX (rb_w (kc := (0 + k_24)) (ks := (0 + s_25)) rfl rfl ?_))
      have hb := Bd.ade hb ea_27 eb_28
      cases hf
      exact rb_vret C rfl hb.e.2.1 hb.e.2.2 dJ13_init_3_9 ⟨rfl, rfl, hb.e.1⟩
    | some x2_q =>
      dsimp only at hf
      refine Ct.of rfl (Nat.le_of_ble_eq_true rfl) fun X C hnm => ?_
      have C : Cx Ev X RJ13 cJ13_init_3 5 none [] := C
      show Wa Ev X (rm_J13_init_3_X6 k s) 5 h n 0 0 (rb_MQ Ev X (rm_J13_init_3_X6 k s) (pX (.inl (none)) h' (n + k))) 0 [(0, .ref o), (1, .ref x1_q), (2, .ref x2_q), (3, .int x3), (4, .int x4)] []
      have hb : Bd (n + k) k s n 0 0 k s := ⟨rfl, Nat.le_of_eq (Nat.zero_add _), Nat.le_of_eq (Nat.zero_add _)⟩
      refine rb_aload_n C dJ13_init_3_0 rfl 0 rfl ?_
      refine rb_aload_n C dJ13_init_3_1 rfl 1 rfl ?_
      refine rb_aload_n C dJ13_init_3_2 rfl 2 rfl ?_
      refine rb_iload_n C dJ13_init_3_3 rfl 3 rfl ?_
      refine rb_iload C dJ13_init_3_4 4 rfl ?_
      obtain ⟨⟨r_32, h_33, k_34, s_35⟩, e_36, hf⟩ := rb_bd hf
      obtain ⟨a_39, b_40, hf, ea_37, eb_38⟩ := ad_at hf
      refine rb_callI (As := [.ref x1_q, .ref x2_q, .int x3, .int x4]) (rest := []) C mi_J12_init_3 si_J13_16 (ct_J12_init_3_X6 Ev h n o (some x1_q) (some x2_q) x3 x4 r_32 _ _ _ e_36) rfl rfl (Nat.le_of_ble_eq_true rfl) ⟨Nat.le_of_ble_eq_true rfl, Nat.le_of_ble_eq_true rfl, Bd.c1 hb ea_37, Bd.s1 hb eb_38⟩ dJ13_init_3_6 rb_xX (rb_kX (rb_w (kc := (0 + k_34)) (ks := (0 + s_35)) rfl rfl ?_))
      have hb := Bd.ade hb ea_37 eb_38
      cases hf
      exact rb_vret C rfl hb.e.2.1 hb.e.2.2 dJ13_init_3_9 ⟨rfl, rfl, hb.e.1⟩
