set_option maxRecDepth 100000
set_option linter.unusedVariables false
def f_J27_grow_2 (Ev : rb_E) (h : AH) (n : Nat) (o : Nat) (x1 : Int32) : Option (Nat × AH × Nat × Nat) := ((hp_p Ev h o 27 1).bind fun v_1 => ((hp_len Ev h v_1 6).bind fun v_3 => (if 0 < (nI v_3) then ((f_J7_newLength Ev h (nI v_3) (x1 - (nI v_3)) ((nI v_3) >>> (1 &&& 31))).bind fun v_7 => ((hp_p Ev h o 27 1).bind fun v_9 => ((f_J9_copyOf_2 Ev h n v_9 v_7).bind fun (r_12, h_13, k_14, s_15) => (ad k_14 s_15 ((hp_put h_13 o 27 1 (.ref r_12)).bind fun h_21 => (some (r_12, h_21, 0, 0))))))) else ((hp_p Ev h o 27 1).bind fun v_23 => ((hp_sp Ev "java/util/ArrayList" "DEFAULTCAPACITY_EMPTY_ELEMENTDATA").bind fun v_25 => (if some v_23 = some v_25 then (if (if 10 < x1 then x1 else 10) < 0 ∨ 65536 < (if 10 < x1 then x1 else 10).toNatClampNeg then none else (ad 1 (if 10 < x1 then x1 else 10).toNatClampNeg (rb_lt (va_up h n (some (.inl (eA Ev 6, (if 10 < x1 then x1 else 10).toNatClampNeg, aQ (fun _ => none))))) fun h_33 => ((hp_put h_33 o 27 1 (.ref n)).bind fun h_34 => (some (n, h_34, 0, 0)))))) else ((f_J7_newLength Ev h (nI v_3) (x1 - (nI v_3)) ((nI v_3) >>> (1 &&& 31))).bind fun v_37 => ((hp_p Ev h o 27 1).bind fun v_39 => ((f_J9_copyOf_2 Ev h n v_39 v_37).bind fun (r_42, h_43, k_44, s_45) => (ad k_44 s_45 ((hp_put h_43 o 27 1 (.ref r_42)).bind fun h_51 => (some (r_42, h_51, 0, 0)))))))))))))
abbrev rm_J27_grow_2 (k s : Nat) : Room := { frames := 3, cells := k, slots := s, locals := 104 }
set_option maxHeartbeats 4000000 in
theorem ct_J27_grow_2 (Ev : rb_E) (h : AH) (n : Nat) (o : Nat) (x1 : Int32) (r : Nat) (h' : AH) (k s : Nat) (hf : f_J27_grow_2 Ev h n o x1 = some (r, h', k, s)) : Ct Ev yJ27_grow_2 (ws_ yJ27_grow_2 cJ27_grow_2 4 (some (.array (.object "java/lang/Object")))) (rm_J27_grow_2 k s) [.ref o, .int x1] h n (pX (.inl (some (.ref r))) h' (n + k)) := by
  rw [f_J27_grow_2] at hf
  refine Ct.of rfl (Nat.le_of_ble_eq_true rfl) fun X C hnm => ?_
  have C : Cx Ev X RJ27 cJ27_grow_2 4 (some (.array (.object "java/lang/Object"))) [] := C
  show Wa Ev X (rm_J27_grow_2 k s) 4 h n 0 0 (rb_MQ Ev X (rm_J27_grow_2 k s) (pX (.inl (some (.ref r))) h' (n + k))) 0 [(0, .ref o), (1, .int x1)] []
  have hb : Bd (n + k) k s n 0 0 k s := ⟨rfl, Nat.le_of_eq (Nat.zero_add _), Nat.le_of_eq (Nat.zero_add _)⟩
  refine rb_aload_n C dJ27_grow_2_0 rfl 0 rfl ?_
  obtain ⟨v_1, e_2, hf⟩ := rb_bd hf
  refine rb_hP C fl_J27_9_J27 e_2 dJ27_grow_2_1 ?_
  obtain ⟨v_3, e_4, hf⟩ := rb_bd hf
  refine rb_hlen (t := 6) C rfl e_4 dJ27_grow_2_4 ?_
  refine rb_istore_n (lv' := [(2, .int (nI v_3)), (0, .ref o), (1, .int x1)]) C dJ27_grow_2_5 rfl (by decide) rfl ?_
  refine rb_iload_n C dJ27_grow_2_6 rfl 0 rfl ?_
  refine rb_if_gt (tgt := 20) C dJ27_grow_2_7 (by decide) (fun c_5 => ?_) (fun c_5 => ?_)
  · have hf := (if_pos c_5).symm.trans hf
    refine rb_iload_n C dJ27_grow_2_20 rfl 0 rfl ?_
    refine rb_iload_n C dJ27_grow_2_21 rfl 2 rfl ?_
    refine rb_iload_n C dJ27_grow_2_22 rfl 0 rfl ?_
    refine rb_isub C dJ27_grow_2_23 ?_
    refine rb_iload_n C dJ27_grow_2_24 rfl 0 rfl ?_
    refine rb_iconst (v := 1) C dJ27_grow_2_25 rfl ?_
    refine rb_ishr C dJ27_grow_2_26 ?_
    obtain ⟨v_7, e_8, hf⟩ := rb_bd hf
    refine rb_callS (As := [.int (nI v_3), .int (x1 - (nI v_3)), .int ((nI v_3) >>> (1 &&& 31))]) (rest := []) C mi_J7_newLength ss_J27_73 (ct_J7_newLength Ev h n (nI v_3) (x1 - (nI v_3)) ((nI v_3) >>> (1 &&& 31)) _ e_8) rfl rfl (Nat.le_of_ble_eq_true rfl) ⟨Nat.le_of_ble_eq_true rfl, Nat.le_of_ble_eq_true rfl, hb.c0, hb.s0⟩ dJ27_grow_2_27 rb_xXi (rb_kXi fun hn_6 => (rb_w (kc := 0) (ks := 0) rfl rfl ?_))
    refine rb_istore_n (lv' := [(3, .int v_7), (2, .int (nI v_3)), (0, .ref o), (1, .int x1)]) C dJ27_grow_2_30 rfl (by decide) rfl ?_
    refine rb_aload_n C dJ27_grow_2_31 rfl 2 rfl ?_
    refine rb_aload_n C dJ27_grow_2_32 rfl 2 rfl ?_
    obtain ⟨v_9, e_10, hf⟩ := rb_bd hf
    refine rb_hP C fl_J27_9_J27 e_10 dJ27_grow_2_33 ?_
    refine rb_iload_n C dJ27_grow_2_36 rfl 0 rfl ?_
    obtain ⟨⟨r_12, h_13, k_14, s_15⟩, e_16, hf⟩ := rb_bd hf
    obtain ⟨a_19, b_20, hf, ea_17, eb_18⟩ := ad_at hf
    refine rb_callS (As := [.ref v_9, .int v_7]) (rest := [.ref o]) C mi_J9_copyOf_2 ss_J27_66 (ct_J9_copyOf_2 Ev h n v_9 v_7 r_12 _ _ _ e_16) rfl rfl (Nat.le_of_ble_eq_true rfl) ⟨Nat.le_of_ble_eq_true rfl, Nat.le_of_ble_eq_true rfl, Bd.c1 hb ea_17, Bd.s1 hb eb_18⟩ dJ27_grow_2_37 rb_xX (rb_kX (rb_w (kc := (0 + k_14)) (ks := (0 + s_15)) rfl rfl ?_))
    have hb := Bd.ade hb ea_17 eb_18
    refine rb_dup_x1 C dJ27_grow_2_40 rfl rfl ?_
    obtain ⟨h_21, e_22, hf⟩ := rb_bd hf
    refine rb_hput C fw_J27_9_J27 e_22 rfl rfl dJ27_grow_2_41 ?_
    cases hf
    exact rb_aret C rfl (Or.inr ⟨_, rfl⟩) (Or.inr ⟨_, rfl⟩) hb.e.2.1 hb.e.2.2 dJ27_grow_2_44 ⟨rfl, rfl, hb.e.1⟩
  · have hf := (if_neg c_5).symm.trans hf
    refine rb_aload_n C dJ27_grow_2_10 rfl 1 rfl ?_
    obtain ⟨v_23, e_24, hf⟩ := rb_bd hf
    refine rb_hP C fl_J27_9_J27 e_24 dJ27_grow_2_11 ?_
    obtain ⟨v_25, e_26, hf⟩ := rb_bd hf
    refine rb_hsp C q1948 q1949 e_26 dJ27_grow_2_14 ?_
    refine rb_acmp_eq (rx := some v_23) (ry := some v_25) (tgt := 45) C dJ27_grow_2_17 (by decide) (fun c_27 => ?_) (fun c_27 => ?_)
    · have hf := (if_pos c_27).symm.trans hf
      refine rb_aload_n C dJ27_grow_2_45 rfl 1 rfl ?_
      refine rb_bipush (v := 10) C dJ27_grow_2_46 rfl ?_
      refine rb_iload_n C dJ27_grow_2_48 rfl 2 rfl ?_
      refine rb_mmax C q2079 q288 q81 q289 (Nat.le_of_ble_eq_true rfl) (Nat.le_of_ble_eq_true rfl) hb.c0 hb.s0 dJ27_grow_2_49 ?_
      by_cases c_g_28 : (if 10 < x1 then x1 else 10) < 0 ∨ 65536 < (if 10 < x1 then x1 else 10).toNatClampNeg
      · exact absurd ((if_pos c_g_28).symm.trans hf) (fun z => by cases z)
      have hf := (if_neg c_g_28).symm.trans hf
      obtain ⟨a_31, b_32, hf, ea_29, eb_30⟩ := ad_at hf
      refine rb_hnewq C 6 rfl q2080 q214 c_g_28 (Bd.c1 hb ea_29) (Bd.s1 hb eb_30) dJ27_grow_2_52 ?_
      have hb := Bd.ade hb ea_29 eb_30
      obtain ⟨h_33, e_h_33⟩ : ∃ z, z = (va_up h n (some (.inl (eA Ev 6, (if 10 < x1 then x1 else 10).toNatClampNeg, aQ (fun _ => none))))) := ⟨_, rfl⟩
      rw [← e_h_33]
      have hf := rb_let hf e_h_33
      refine rb_dup_x1 C dJ27_grow_2_55 rfl rfl ?_
      obtain ⟨h_34, e_35, hf⟩ := rb_bd hf
      refine rb_hput C fw_J27_9_J27 e_35 rfl rfl dJ27_grow_2_56 ?_
      cases hf
      exact rb_aret C rfl (Or.inr ⟨_, rfl⟩) (Or.inr ⟨_, rfl⟩) hb.e.2.1 hb.e.2.2 dJ27_grow_2_59 ⟨rfl, rfl, hb.e.1⟩
    · have hf := (if_neg c_27).symm.trans hf
      refine rb_iload_n C dJ27_grow_2_20 rfl 0 rfl ?_
      refine rb_iload_n C dJ27_grow_2_21 rfl 2 rfl ?_
      refine rb_iload_n C dJ27_grow_2_22 rfl 0 rfl ?_
      refine rb_isub C dJ27_grow_2_23 ?_
      refine rb_iload_n C dJ27_grow_2_24 rfl 0 rfl ?_
      refine rb_iconst (v := 1) C dJ27_grow_2_25 rfl ?_
      refine rb_ishr C dJ27_grow_2_26 ?_
      obtain ⟨v_37, e_38, hf⟩ := rb_bd hf
      refine rb_callS (As := [.int (nI v_3), .int (x1 - (nI v_3)), .int ((nI v_3) >>> (1 &&& 31))]) (rest := []) C mi_J7_newLength ss_J27_73 (ct_J7_newLength Ev h n (nI v_3) (x1 - (nI v_3)) ((nI v_3) >>> (1 &&& 31)) _ e_38) rfl rfl (Nat.le_of_ble_eq_true rfl) ⟨Nat.le_of_ble_eq_true rfl, Nat.le_of_ble_eq_true rfl, hb.c0, hb.s0⟩ dJ27_grow_2_27 rb_xXi (rb_kXi fun hn_36 => (rb_w (kc := 0) (ks := 0) rfl rfl ?_))
      refine rb_istore_n (lv' := [(3, .int v_37), (2, .int (nI v_3)), (0, .ref o), (1, .int x1)]) C dJ27_grow_2_30 rfl (by decide) rfl ?_
      refine rb_aload_n C dJ27_grow_2_31 rfl 2 rfl ?_
      refine rb_aload_n C dJ27_grow_2_32 rfl 2 rfl ?_
      obtain ⟨v_39, e_40, hf⟩ := rb_bd hf
      refine rb_hP C fl_J27_9_J27 e_40 dJ27_grow_2_33 ?_
      refine rb_iload_n C dJ27_grow_2_36 rfl 0 rfl ?_
      obtain ⟨⟨r_42, h_43, k_44, s_45⟩, e_46, hf⟩ := rb_bd hf
      obtain ⟨a_49, b_50, hf, ea_47, eb_48⟩ := ad_at hf
      refine rb_callS (As := [.ref v_39, .int v_37]) (rest := [.ref o]) C mi_J9_copyOf_2 ss_J27_66 (ct_J9_copyOf_2 Ev h n v_39 v_37 r_42 _ _ _ e_46) rfl rfl (Nat.le_of_ble_eq_true rfl) ⟨Nat.le_of_ble_eq_true rfl, Nat.le_of_ble_eq_true rfl, Bd.c1 hb ea_47, Bd.s1 hb eb_48⟩ dJ27_grow_2_37 rb_xX (rb_kX (rb_w (kc := (0 + k_44)) (ks := (0 + s_45)) rfl rfl ?_))
      have hb := Bd.ade hb ea_47 eb_48
      refine rb_dup_x1 C dJ27_grow_2_40 rfl rfl ?_
      obtain ⟨h_51, e_52, hf⟩ := rb_bd hf
      refine rb_hput C fw_J27_9_J27 e_52 rfl rfl dJ27_grow_2_41 ?_
      cases hf
      exact rb_aret C rfl (Or.inr ⟨_, rfl⟩) (Or.inr ⟨_, rfl⟩) hb.e.2.1 hb.e.2.2 dJ27_grow_2_44 ⟨rfl, rfl, hb.e.1⟩
def f_J27_grow (Ev : rb_E) (h : AH) (n : Nat) (o : Nat) : Option (Nat × AH × Nat × Nat) := ((hp_i Ev h o 27 2).bind fun v_1 => ((hp_k Ev h o 27).bind fun u_3 => ((f_J27_grow_2 Ev h n o (v_1 + 1)).bind fun (r_6, h_7, k_8, s_9) => (ad k_8 s_9 (some (r_6, h_7, 0, 0))))))
abbrev rm_J27_grow (k s : Nat) : Room := { frames := 4, cells := k, slots := s, locals := 127 }
set_option maxHeartbeats 4000000 in
theorem ct_J27_grow (Ev : rb_E) (h : AH) (n : Nat) (o : Nat) (r : Nat) (h' : AH) (k s : Nat) (hf : f_J27_grow Ev h n o = some (r, h', k, s)) : Ct Ev yJ27_grow (ws_ yJ27_grow cJ27_grow 1 (some (.array (.object "java/lang/Object")))) (rm_J27_grow k s) [.ref o] h n (pX (.inl (some (.ref r))) h' (n + k)) := by
  rw [f_J27_grow] at hf
  refine Ct.of rfl (Nat.le_of_ble_eq_true rfl) fun X C hnm => ?_
  have C : Cx Ev X RJ27 cJ27_grow 1 (some (.array (.object "java/lang/Object"))) [] := C
  show Wa Ev X (rm_J27_grow k s) 1 h n 0 0 (rb_MQ Ev X (rm_J27_grow k s) (pX (.inl (some (.ref r))) h' (n + k))) 0 [(0, .ref o)] []
  have hb : Bd (n + k) k s n 0 0 k s := ⟨rfl, Nat.le_of_eq (Nat.zero_add _), Nat.le_of_eq (Nat.zero_add _)⟩
  refine rb_aload_n C dJ27_grow_0 rfl 0 rfl ?_
  refine rb_aload_n C dJ27_grow_1 rfl 0 rfl ?_
  obtain ⟨v_1, e_2, hf⟩ := rb_bd hf
  refine rb_hI C fl_J27_48_J27 e_2 dJ27_grow_2 ?_
  refine rb_iconst (v := 1) C dJ27_grow_5 rfl ?_
  refine rb_iadd C dJ27_grow_6 ?_
  obtain ⟨u_3, e_4, hf⟩ := rb_bd hf
  obtain ⟨⟨r_6, h_7, k_8, s_9⟩, e_10, hf⟩ := rb_bd hf
  obtain ⟨a_13, b_14, hf, ea_11, eb_12⟩ := ad_at hf
  refine rb_callV (As := [.int (v_1 + 1)]) (rest := []) C mi_J27_grow_2 sv_J27_69 (hp_k_isC C.pf e_4 ck_J27) (ct_J27_grow_2 Ev h n o (v_1 + 1) r_6 _ _ _ e_10) rfl rfl (Nat.le_of_ble_eq_true rfl) ⟨Nat.le_of_ble_eq_true rfl, Nat.le_of_ble_eq_true rfl, Bd.c1 hb ea_11, Bd.s1 hb eb_12⟩ dJ27_grow_7 rb_xX (rb_kX (rb_w (kc := (0 + k_8)) (ks := (0 + s_9)) rfl rfl ?_))
  have hb := Bd.ade hb ea_11 eb_12
  cases hf
  exact rb_aret C rfl (Or.inr ⟨_, rfl⟩) (Or.inr ⟨_, rfl⟩) hb.e.2.1 hb.e.2.2 dJ27_grow_10 ⟨rfl, rfl, hb.e.1⟩
def f_J27_add_2_j11_4 (Ev : rb_E) (o : Nat) (x1 : Nat) (x3 : Int32) (y2_j11_4 : Nat) (h_j11_4 : AH) (n_j11_4 : Nat) : Option (Unit × AH × Nat × Nat) := ((hp_ca Ev h_j11_4 x1 obL).bind fun u_6 => ((hp_as Ev h_j11_4 6 y2_j11_4 x3 (some x1)).bind fun h_5 => ((hp_put h_5 o 27 2 (.int (x3 + 1))).bind fun h_9 => (some ((), h_9, 0, 0)))))
def f_J27_add_2 (Ev : rb_E) (h : AH) (n : Nat) (o : Nat) (x1 : Nat) (x2 : Nat) (x3 : Int32) : Option (Unit × AH × Nat × Nat) := ((hp_len Ev h x2 6).bind fun v_1 => (if x3 = (nI v_1) then ((hp_k Ev h o 27).bind fun u_11 => ((f_J27_grow Ev h n o).bind fun (r_14, h_15, k_16, s_17) => (ad k_16 s_17 (f_J27_add_2_j11_4 Ev o x1 x3 r_14 h_15 (n + k_16))))) else (f_J27_add_2_j11_4 Ev o x1 x3 x2 h n)))
abbrev rm_J27_add_2 (k s : Nat) : Room := { frames := 5, cells := k, slots := s, locals := 147 }
set_option maxHeartbeats 4000000 in
theorem ct_J27_add_2 (Ev : rb_E) (h : AH) (n : Nat) (o : Nat) (x1 : Nat) (x2 : Nat) (x3 : Int32) (r : Unit) (h' : AH) (k s : Nat) (hf : f_J27_add_2 Ev h n o x1 x2 x3 = some (r, h', k, s)) : Ct Ev yJ27_add_2 (ws_ yJ27_add_2 cJ27_add_2 4 none) (rm_J27_add_2 k s) [.ref o, .ref x1, .ref x2, .int x3] h n (pX (.inl (none)) h' (n + k)) := by
  rw [f_J27_add_2] at hf
  refine Ct.of rfl (Nat.le_of_ble_eq_true rfl) fun X C hnm => ?_
  have C : Cx Ev X RJ27 cJ27_add_2 4 none [] := C
  show Wa Ev X (rm_J27_add_2 k s) 4 h n 0 0 (rb_MQ Ev X (rm_J27_add_2 k s) (pX (.inl (none)) h' (n + k))) 0 [(0, .ref o), (1, .ref x1), (2, .ref x2), (3, .int x3)] []
  have hb : Bd (n + k) k s n 0 0 k s := ⟨rfl, Nat.le_of_eq (Nat.zero_add _), Nat.le_of_eq (Nat.zero_add _)⟩
  refine rb_iload_n C dJ27_add_2_0 rfl 3 rfl ?_
  refine rb_aload_n C dJ27_add_2_1 rfl 2 rfl ?_
  obtain ⟨v_1, e_2, hf⟩ := rb_bd hf
  refine rb_hlen (t := 6) C rfl e_2 dJ27_add_2_2 ?_
  have J_j11_4 : ∀ (y2_j11_4 : Nat) (h_j11_4 : AH) (n_j11_4 : Nat) (kc_j11_4 ks_j11_4 a_ b_ : Nat), f_J27_add_2_j11_4 Ev o x1 x3 y2_j11_4 h_j11_4 n_j11_4 = some (r, h', a_, b_) → Bd (n + k) k s n_j11_4 kc_j11_4 ks_j11_4 a_ b_ → Wa Ev X (rm_J27_add_2 k s) 4 h_j11_4 n_j11_4 kc_j11_4 ks_j11_4 (rb_MQ Ev X (rm_J27_add_2 k s) (pX (.inl (none)) h' (n + k))) 11 [(0, .ref o), (1, .ref x1), (2, .ref y2_j11_4), (3, .int x3)] [] := by
    intro y2_j11_4 h_j11_4 n_j11_4 kc_j11_4 ks_j11_4 a_ b_ hf hb
    rw [f_J27_add_2_j11_4] at hf
    refine rb_aload_n C dJ27_add_2_11 rfl 2 rfl ?_
    refine rb_iload_n C dJ27_add_2_12 rfl 3 rfl ?_
    refine rb_aload_n C dJ27_add_2_13 rfl 1 rfl ?_
    obtain ⟨u_6, e_7, hf⟩ := rb_bd hf
    obtain ⟨h_5, e_8, hf⟩ := rb_bd hf
    refine rb_hasL C 6 obL rfl obL_ok e_7 e_8 dJ27_add_2_14 ?_
    refine rb_aload_n C dJ27_add_2_15 rfl 0 rfl ?_
    refine rb_iload_n C dJ27_add_2_16 rfl 3 rfl ?_
    refine rb_iconst (v := 1) C dJ27_add_2_17 rfl ?_
    refine rb_iadd C dJ27_add_2_18 ?_
    obtain ⟨h_9, e_10, hf⟩ := rb_bd hf
    refine rb_hput C fw_J27_48_J27 e_10 rfl rfl dJ27_add_2_19 ?_
    cases hf
    exact rb_vret C rfl hb.e.2.1 hb.e.2.2 dJ27_add_2_22 ⟨rfl, rfl, hb.e.1⟩
  refine rb_icmp_ne (tgt := 11) C dJ27_add_2_3 (by decide) (fun c_3 => ?_) (fun c_3 => ?_)
  · have hf := (if_neg c_3).symm.trans hf
    exact J_j11_4 x2 h n  _ _ _ _ hf hb
  · have hf := (if_pos c_3).symm.trans hf
    refine rb_aload_n C dJ27_add_2_6 rfl 0 rfl ?_
    obtain ⟨u_11, e_12, hf⟩ := rb_bd hf
    obtain ⟨⟨r_14, h_15, k_16, s_17⟩, e_18, hf⟩ := rb_bd hf
    obtain ⟨a_21, b_22, hf, ea_19, eb_20⟩ := ad_at hf
    refine rb_callV (As := []) (rest := []) C mi_J27_grow sv_J27_129 (hp_k_isC C.pf e_12 ck_J27) (ct_J27_grow Ev h n o r_14 _ _ _ e_18) rfl rfl (Nat.le_of_ble_eq_true rfl) ⟨Nat.le_of_ble_eq_true rfl, Nat.le_of_ble_eq_true rfl, Bd.c1 hb ea_19, Bd.s1 hb eb_20⟩ dJ27_add_2_7 rb_xX (rb_kX (rb_w (kc := (0 + k_16)) (ks := (0 + s_17)) rfl rfl ?_))
    have hb := Bd.ade hb ea_19 eb_20
    refine rb_astore_n (lv' := [(2, .ref r_14), (0, .ref o), (1, .ref x1), (3, .int x3)]) C dJ27_add_2_10 rfl (by decide) rfl ?_
    refine rb_sub [1, 2, 0, 3] rfl ?_
    exact J_j11_4 r_14 h_15 (n + k_16)  _ _ _ _ hf hb
def f_J27_add (Ev : rb_E) (h : AH) (n : Nat) (o : Nat) (x1 : Nat) : Option (Int32 × AH × Nat × Nat) := ((hp_i Ev h o 27 0).bind fun v_1 => ((hp_put h o 27 0 (.int (v_1 + 1))).bind fun h_3 => ((hp_p Ev h_3 o 27 1).bind fun v_5 => ((hp_i Ev h_3 o 27 2).bind fun v_7 => ((hp_k Ev h_3 o 27).bind fun u_9 => ((f_J27_add_2 Ev h_3 n o x1 v_5 v_7).bind fun (r_12, h_13, k_14, s_15) => (ad k_14 s_15 (some (1, h_13, 0, 0)))))))))
abbrev rm_J27_add (k s : Nat) : Room := { frames := 6, cells := k, slots := s, locals := 170 }
set_option maxHeartbeats 4000000 in
theorem ct_J27_add (Ev : rb_E) (h : AH) (n : Nat) (o : Nat) (x1 : Nat) (r : Int32) (h' : AH) (k s : Nat) (hf : f_J27_add Ev h n o x1 = some (r, h', k, s)) : Ct Ev yJ27_add (ws_ yJ27_add cJ27_add 2 (some .boolean)) (rm_J27_add k s) [.ref o, .ref x1] h n (pXi .boolean r h' (n + k)) := by
  rw [f_J27_add] at hf
  refine Ct.of rfl (Nat.le_of_ble_eq_true rfl) fun X C hnm => ?_
  have C : Cx Ev X RJ27 cJ27_add 2 (some .boolean) [] := C
  show Wa Ev X (rm_J27_add k s) 2 h n 0 0 (rb_MQ Ev X (rm_J27_add k s) (pXi .boolean r h' (n + k))) 0 [(0, .ref o), (1, .ref x1)] []
  have hb : Bd (n + k) k s n 0 0 k s := ⟨rfl, Nat.le_of_eq (Nat.zero_add _), Nat.le_of_eq (Nat.zero_add _)⟩
  refine rb_aload_n C dJ27_add_0 rfl 0 rfl ?_
  refine rb_dup C dJ27_add_1 rfl ?_
  obtain ⟨v_1, e_2, hf⟩ := rb_bd hf
  refine rb_hIS C fs_J27_63_J27 e_2 dJ27_add_2 ?_
  refine rb_iconst (v := 1) C dJ27_add_5 rfl ?_
  refine rb_iadd C dJ27_add_6 ?_
  obtain ⟨h_3, e_4, hf⟩ := rb_bd hf
  refine rb_hputS C fs_J27_63_J27 e_4 rfl rfl dJ27_add_7 ?_
  refine rb_aload_n C dJ27_add_10 rfl 0 rfl ?_
  refine rb_aload_n C dJ27_add_11 rfl 1 rfl ?_
  refine rb_aload_n C dJ27_add_12 rfl 0 rfl ?_
  obtain ⟨v_5, e_6, hf⟩ := rb_bd hf
  refine rb_hP C fl_J27_9_J27 e_6 dJ27_add_13 ?_
  refine rb_aload_n C dJ27_add_16 rfl 0 rfl ?_
  obtain ⟨v_7, e_8, hf⟩ := rb_bd hf
  refine rb_hI C fl_J27_48_J27 e_8 dJ27_add_17 ?_
  obtain ⟨u_9, e_10, hf⟩ := rb_bd hf
  obtain ⟨⟨r_12, h_13, k_14, s_15⟩, e_16, hf⟩ := rb_bd hf
  obtain ⟨a_19, b_20, hf, ea_17, eb_18⟩ := ad_at hf
  refine rb_callV (As := [.ref x1, .ref v_5, .int v_7]) (rest := []) C mi_J27_add_2 sv_J27_131 (hp_k_isC C.pf e_10 ck_J27) (ct_J27_add_2 Ev h_3 n o x1 v_5 v_7 r_12 _ _ _ e_16) rfl rfl (Nat.le_of_ble_eq_true rfl) ⟨Nat.le_of_ble_eq_true rfl, Nat.le_of_ble_eq_true rfl, Bd.c1 hb ea_17, Bd.s1 hb eb_18⟩ dJ27_add_20 rb_xX (rb_kX (rb_w (kc := (0 + k_14)) (ks := (0 + s_15)) rfl rfl ?_))
  have hb := Bd.ade hb ea_17 eb_18
  refine rb_iconst (v := 1) C dJ27_add_23 rfl ?_
  cases hf
  exact rb_iret C rfl rfl hb.e.2.1 hb.e.2.2 dJ27_add_24 ⟨rfl, rfl, hb.e.1, rfl⟩
def f_X13_text_l19_43 (Ev : rb_E) (o : Nat) (n : Nat) : Nat → AH → Nat → Option ((Nat ⊕ (String × Nat)) × AH × Nat × Nat)
  | 0, _, _ => none
  | k_l19_43 + 1, h_l19_43, n_l19_43 => ((hp_i Ev h_l19_43 o 11 0).bind fun v_44 => ((hp_p Ev h_l19_43 o 11 1).bind fun v_46 => ((hp_p Ev h_l19_43 v_46 0 2).bind fun v_48 => ((hp_k Ev h_l19_43 v_48 13).bind fun u_50 => ((f_J1_length Ev h_l19_43 v_48).bind fun v_53 => (if v_53 ≤ v_44 then (some (.inl n, h_l19_43, 0, 0)) else ((hp_k Ev h_l19_43 o 11).bind fun u_56 => ((f_X13_take Ev h_l19_43 n_l19_43 o (eS Ev RX13 135)).bind fun (r_59, h_60, k_61, s_62) => (ad k_61 s_62 (match r_59 with | .inl v_68 => ((hp_k Ev h_60 o 11).bind fun u_71 => ((f_X13_command Ev h_60 (n_l19_43 + k_61) o).bind fun (r_74, h_75, k_76, s_77) => (ad k_76 s_77 (match r_74 with | .inl v_83 => ((hp_k Ev h_75 n 27).bind fun u_86 => ((f_J27_add Ev h_75 ((n_l19_43 + k_61) + k_76) n v_83).bind fun (r_89, h_90, k_91, s_92) => (ad k_91 s_92 ((f_X13_text_l19_43 Ev o n k_l19_43) h_90 (((n_l19_43 + k_61) + k_76) + k_91))))) | .inr (E_84, q_85) => (if E_84 = "RainbowOperators$SyntaxFault" then (some (.inr ("RainbowOperators$SyntaxFault", q_85), h_75, 0, 0)) else none))))) | .inr (E_69, q_70) => (if E_69 = "RainbowOperators$SyntaxFault" then (some (.inr ("RainbowOperators$SyntaxFault", q_70), h_60, 0, 0)) else none)))))))))))
def f_X13_text (Ev : rb_E) (h : AH) (n : Nat) (o : Nat) : Option ((Nat ⊕ (String × Nat)) × AH × Nat × Nat) := (ad 1 3 (rb_lt (va_up h n (some (.inr (27, [.int 0, .null, .int 0])))) fun h_5 => ((f_J27_init Ev h_5 (n + 1) n).bind fun (r_7, h_8, k_9, s_10) => (ad k_9 s_10 ((hp_k Ev h_8 o 11).bind fun u_16 => ((f_X13_command Ev h_8 ((n + 1) + k_9) o).bind fun (r_19, h_20, k_21, s_22) => (ad k_21 s_22 (match r_19 with | .inl v_28 => ((hp_k Ev h_20 n 27).bind fun u_31 => ((f_J27_add Ev h_20 (((n + 1) + k_9) + k_21) n v_28).bind fun (r_34, h_35, k_36, s_37) => (ad k_36 s_37 (f_X13_text_l19_43 Ev o n 4096 h_35 ((((n + 1) + k_9) + k_21) + k_36))))) | .inr (E_29, q_30) => (if E_29 = "RainbowOperators$SyntaxFault" then (some (.inr ("RainbowOperators$SyntaxFault", q_30), h_20, 0, 0)) else none)))))))))
abbrev rm_X13_text (k s : Nat) : Room := { frames := 12, cells := k, slots := s, locals := 271 }
set_option maxHeartbeats 4000000 in
theorem ct_X13_text (Ev : rb_E) (h : AH) (n : Nat) (o : Nat) (r : Nat ⊕ (String × Nat)) (h' : AH) (k s : Nat) (hf : f_X13_text Ev h n o = some (r, h', k, s)) : Ct Ev yX13_text (ws_ yX13_text cX13_text 3 (some (.object "java/util/List"))) (rm_X13_text k s) [.ref o] h n (pX (rMap (fun v => some (.ref v)) r) h' (n + k)) := by
  rw [f_X13_text] at hf
  refine Ct.of rfl (Nat.le_of_ble_eq_true rfl) fun X C hnm => ?_
  have C : Cx Ev X RX13 cX13_text 3 (some (.object "java/util/List")) [] := C
  show Wa Ev X (rm_X13_text k s) 3 h n 0 0 (rb_MQ Ev X (rm_X13_text k s) (pX (rMap (fun v => some (.ref v)) r) h' (n + k))) 0 [(0, .ref o)] []
  have hb : Bd (n + k) k s n 0 0 k s := ⟨rfl, Nat.le_of_eq (Nat.zero_add _), Nat.le_of_eq (Nat.zero_add _)⟩
  obtain ⟨a_3, b_4, hf, ea_1, eb_2⟩ := ad_at hf
  refine rb_hnew C ck_J27 q1939 q1940 q112 [.int 0, .null, .int 0] rfl (Bd.c1 hb ea_1) (Bd.s1 hb eb_2) dX13_text_0 ?_
  have hb := Bd.ade hb ea_1 eb_2
  obtain ⟨h_5, e_h_5⟩ : ∃ z, z = (va_up h n (some (.inr (27, [.int 0, .null, .int 0])))) := ⟨_, rfl⟩
  rw [← e_h_5]
  have hf := rb_let hf e_h_5
  refine rb_dup C dX13_text_3 rfl ?_
  obtain ⟨⟨r_7, h_8, k_9, s_10⟩, e_11, hf⟩ := rb_bd hf
  obtain ⟨a_14, b_15, hf, ea_12, eb_13⟩ := ad_at hf
  refine rb_callI (As := []) (rest := [.ref n]) C mi_J27_init si_X13_125 (ct_J27_init Ev h_5 (n + 1) n r_7 _ _ _ e_11) rfl rfl (Nat.le_of_ble_eq_true rfl) ⟨Nat.le_of_ble_eq_true rfl, Nat.le_of_ble_eq_true rfl, Bd.c1 hb ea_12, Bd.s1 hb eb_13⟩ dX13_text_4 rb_xX (rb_kX (rb_w (kc := ((0 + 1) + k_9)) (ks := ((0 + 3) + s_10)) rfl rfl ?_))
  have hb := Bd.ade hb ea_12 eb_13
  refine rb_astore_n (lv' := [(1, .ref n), (0, .ref o)]) C dX13_text_7 rfl (by decide) rfl ?_
  refine rb_aload_n C dX13_text_8 rfl 0 rfl ?_
  refine rb_aload_n C dX13_text_9 rfl 1 rfl ?_
  obtain ⟨u_16, e_17, hf⟩ := rb_bd hf
  obtain ⟨⟨r_19, h_20, k_21, s_22⟩, e_23, hf⟩ := rb_bd hf
  obtain ⟨a_26, b_27, hf, ea_24, eb_25⟩ := ad_at hf
  rcases r_19 with v_28 | ⟨E_29, q_30⟩
  · dsimp only at hf
    refine rb_callV (As := []) (rest := [.ref n]) C mi_X13_command sv_X13_126 (hp_k_isC C.pf e_17 ck_X13) (ct_X13_command Ev h_8 ((n + 1) + k_9) o (.inl v_28) _ _ _ e_23) rfl rfl (Nat.le_of_ble_eq_true rfl) ⟨Nat.le_of_ble_eq_true rfl, Nat.le_of_ble_eq_true rfl, Bd.c1 hb ea_24, Bd.s1 hb eb_25⟩ dX13_text_10 rb_xX (rb_kX (r := some (.ref v_28)) (rb_w (kc := (((0 + 1) + k_9) + k_21)) (ks := (((0 + 3) + s_10) + s_22)) rfl rfl ?_))
    have hb := Bd.ade hb ea_24 eb_25
    obtain ⟨u_31, e_32, hf⟩ := rb_bd hf
    obtain ⟨⟨r_34, h_35, k_36, s_37⟩, e_38, hf⟩ := rb_bd hf
    obtain ⟨a_41, b_42, hf, ea_39, eb_40⟩ := ad_at hf
    refine rb_callF (As := [.ref v_28]) (rest := []) C mi_J27_add sf_X13_130_J27 ck_J27 (hp_k_isC C.pf e_32 ck_J27) (ct_J27_add Ev h_20 (((n + 1) + k_9) + k_21) n v_28 r_34 _ _ _ e_38) rfl rfl (Nat.le_of_ble_eq_true rfl) ⟨Nat.le_of_ble_eq_true rfl, Nat.le_of_ble_eq_true rfl, Bd.c1 hb ea_39, Bd.s1 hb eb_40⟩ dX13_text_13 rb_xXi (rb_kXi fun hn_33 => (rb_w (kc := ((((0 + 1) + k_9) + k_21) + k_36)) (ks := ((((0 + 3) + s_10) + s_22) + s_37)) rfl rfl ?_))
    have hb := Bd.ade hb ea_39 eb_40
    refine rb_pop C dX13_text_18 rfl ?_
    have L_l19_43 : ∀ (k_l19_43 : Nat) (h_l19_43 : AH) (n_l19_43 kc_l19_43 ks_l19_43 a_ b_ : Nat), f_X13_text_l19_43 Ev o n k_l19_43 h_l19_43 n_l19_43 = some (r, h', a_, b_) → Bd (n + k) k s n_l19_43 kc_l19_43 ks_l19_43 a_ b_ → Wa Ev X (rm_X13_text k s) 3 h_l19_43 n_l19_43 kc_l19_43 ks_l19_43 (rb_MQ Ev X (rm_X13_text k s) (pX (rMap (fun v => some (.ref v)) r) h' (n + k))) 19 [(0, .ref o), (1, .ref n)] [] := by
      intro k_l19_43
      induction k_l19_43 with
      | zero => intro h_l19_43 n_l19_43 kc_l19_43 ks_l19_43 a_ b_ hf hb; cases hf
      | succ k_l19_43 ih_l19_43 =>
        intro h_l19_43 n_l19_43 kc_l19_43 ks_l19_43 a_ b_ hf hb
        rw [f_X13_text_l19_43] at hf
        refine rb_aload_n C dX13_text_19 rfl 0 rfl ?_
        obtain ⟨v_44, e_45, hf⟩ := rb_bd hf
        refine rb_hI C fl_X13_15_X13 e_45 dX13_text_20 ?_
        refine rb_aload_n C dX13_text_23 rfl 0 rfl ?_
        obtain ⟨v_46, e_47, hf⟩ := rb_bd hf
        refine rb_hP C fl_X13_3_X13 e_47 dX13_text_24 ?_
        obtain ⟨v_48, e_49, hf⟩ := rb_bd hf
        refine rb_hP C fl_X13_19_X1 e_49 dX13_text_27 ?_
        obtain ⟨u_50, e_51, hf⟩ := rb_bd hf
        obtain ⟨v_53, e_54, hf⟩ := rb_bd hf
        refine rb_callV (As := []) (rest := [.int v_44]) C mi_J1_length sv_X13_23 (hp_k_isC C.pf e_51 ck_J1) (ct_J1_length Ev h_l19_43 n_l19_43 v_48 _ e_54) rfl rfl (Nat.le_of_ble_eq_true rfl) ⟨Nat.le_of_ble_eq_true rfl, Nat.le_of_ble_eq_true rfl, hb.c0, hb.s0⟩ dX13_text_30 rb_xXi (rb_kXi fun hn_52 => (rb_w (kc := kc_l19_43) (ks := ks_l19_43) rfl rfl ?_))
        refine rb_icmp_ge (tgt := 57) C dX13_text_33 (by decide) (fun c_55 => ?_) (fun c_55 => ?_)
        · have hf := (if_pos c_55).symm.trans hf
          refine rb_aload_n C dX13_text_57 rfl 1 rfl ?_
          cases hf
          exact rb_aret C rfl (Or.inl ⟨_, rfl⟩) (Or.inr ⟨_, rfl⟩) hb.e.2.1 hb.e.2.2 dX13_text_58 ⟨rfl, rfl, hb.e.1⟩
        · have hf := (if_neg c_55).symm.trans hf
          refine rb_aload_n C dX13_text_36 rfl 0 rfl ?_
          refine rb_ldcS C q2081 dX13_text_37 ?_
          obtain ⟨u_56, e_57, hf⟩ := rb_bd hf
          obtain ⟨⟨r_59, h_60, k_61, s_62⟩, e_63, hf⟩ := rb_bd hf
          obtain ⟨a_66, b_67, hf, ea_64, eb_65⟩ := ad_at hf
          rcases r_59 with v_68 | ⟨E_69, q_70⟩
          · dsimp only at hf
            refine rb_callV (As := [.ref (eS Ev RX13 135)]) (rest := []) C mi_X13_take sv_X13_50 (hp_k_isC C.pf e_57 ck_X13) (ct_X13_take Ev h_l19_43 n_l19_43 o (eS Ev RX13 135) (.inl v_68) _ _ _ e_63) rfl rfl (Nat.le_of_ble_eq_true rfl) ⟨Nat.le_of_ble_eq_true rfl, Nat.le_of_ble_eq_true rfl, Bd.c1 hb ea_64, Bd.s1 hb eb_65⟩ dX13_text_39 rb_xX (rb_kX (r := some (.int v_68)) (rb_w (kc := (kc_l19_43 + k_61)) (ks := (ks_l19_43 + s_62)) rfl rfl ?_))
            have hb := Bd.ade hb ea_64 eb_65
            refine rb_istore_n (lv' := [(2, .int v_68), (0, .ref o), (1, .ref n)]) C dX13_text_42 rfl (by decide) rfl ?_
            refine rb_aload_n C dX13_text_43 rfl 2 rfl ?_
            refine rb_aload_n C dX13_text_44 rfl 1 rfl ?_
            obtain ⟨u_71, e_72, hf⟩ := rb_bd hf
            obtain ⟨⟨r_74, h_75, k_76, s_77⟩, e_78, hf⟩ := rb_bd hf
            obtain ⟨a_81, b_82, hf, ea_79, eb_80⟩ := ad_at hf
            rcases r_74 with v_83 | ⟨E_84, q_85⟩
            · dsimp only at hf
              refine rb_callV (As := []) (rest := [.ref n]) C mi_X13_command sv_X13_126 (hp_k_isC C.pf e_72 ck_X13) (ct_X13_command Ev h_60 (n_l19_43 + k_61) o (.inl v_83) _ _ _ e_78) rfl rfl (Nat.le_of_ble_eq_true rfl) ⟨Nat.le_of_ble_eq_true rfl, Nat.le_of_ble_eq_true rfl, Bd.c1 hb ea_79, Bd.s1 hb eb_80⟩ dX13_text_45 rb_xX (rb_kX (r := some (.ref v_83)) (rb_w (kc := ((kc_l19_43 + k_61) + k_76)) (ks := ((ks_l19_43 + s_62) + s_77)) rfl rfl ?_))
              have hb := Bd.ade hb ea_79 eb_80
              obtain ⟨u_86, e_87, hf⟩ := rb_bd hf
              obtain ⟨⟨r_89, h_90, k_91, s_92⟩, e_93, hf⟩ := rb_bd hf
              obtain ⟨a_96, b_97, hf, ea_94, eb_95⟩ := ad_at hf
              refine rb_callF (As := [.ref v_83]) (rest := []) C mi_J27_add sf_X13_130_J27 ck_J27 (hp_k_isC C.pf e_87 ck_J27) (ct_J27_add Ev h_75 ((n_l19_43 + k_61) + k_76) n v_83 r_89 _ _ _ e_93) rfl rfl (Nat.le_of_ble_eq_true rfl) ⟨Nat.le_of_ble_eq_true rfl, Nat.le_of_ble_eq_true rfl, Bd.c1 hb ea_94, Bd.s1 hb eb_95⟩ dX13_text_48 rb_xXi (rb_kXi fun hn_88 => (rb_w (kc := (((kc_l19_43 + k_61) + k_76) + k_91)) (ks := (((ks_l19_43 + s_62) + s_77) + s_92)) rfl rfl ?_))
              have hb := Bd.ade hb ea_94 eb_95
              refine rb_pop C dX13_text_53 rfl ?_
              refine rb_goto (tgt := 19) C dX13_text_54 (by decide) ?_
              refine rb_sub [1, 2] rfl ?_
              exact ih_l19_43 h_90 (((n_l19_43 + k_61) + k_76) + k_91) _ _ _ _ hf hb
            · dsimp only at hf
              by_cases c_98 : E_84 = "RainbowOperators$SyntaxFault"
              · have hf := (if_pos c_98).symm.trans hf
                subst c_98
                refine rb_callV (As := []) (rest := [.ref n]) C mi_X13_command sv_X13_126 (hp_k_isC C.pf e_72 ck_X13) (ct_X13_command Ev h_60 (n_l19_43 + k_61) o (.inr ("RainbowOperators$SyntaxFault", q_85)) _ _ _ e_78) rfl rfl (Nat.le_of_ble_eq_true rfl) ⟨Nat.le_of_ble_eq_true rfl, Nat.le_of_ble_eq_true rfl, Bd.c1 hb ea_79, Bd.s1 hb eb_80⟩ dX13_text_45 (rb_xY (E := "RainbowOperators$SyntaxFault") (rb_wX (kc := ((kc_l19_43 + k_61) + k_76)) (ks := ((ks_l19_43 + s_62) + s_77)) rfl rfl ?_)) rb_kY
                have hb := Bd.ade hb ea_79 eb_80
                cases hf
                exact rb_out C (fun _ z => absurd z List.not_mem_nil) hb.e.2.1 hb.e.2.2 ⟨rfl, rfl, hb.e.1⟩
              have hf := (if_neg c_98).symm.trans hf
              cases hf
          · dsimp only at hf
            by_cases c_99 : E_69 = "RainbowOperators$SyntaxFault"
            · have hf := (if_pos c_99).symm.trans hf
              subst c_99
              refine rb_callV (As := [.ref (eS Ev RX13 135)]) (rest := []) C mi_X13_take sv_X13_50 (hp_k_isC C.pf e_57 ck_X13) (ct_X13_take Ev h_l19_43 n_l19_43 o (eS Ev RX13 135) (.inr ("RainbowOperators$SyntaxFault", q_70)) _ _ _ e_63) rfl rfl (Nat.le_of_ble_eq_true rfl) ⟨Nat.le_of_ble_eq_true rfl, Nat.le_of_ble_eq_true rfl, Bd.c1 hb ea_64, Bd.s1 hb eb_65⟩ dX13_text_39 (rb_xY (E := "RainbowOperators$SyntaxFault") (rb_wX (kc := (kc_l19_43 + k_61)) (ks := (ks_l19_43 + s_62)) rfl rfl ?_)) rb_kY
              have hb := Bd.ade hb ea_64 eb_65
              cases hf
              exact rb_out C (fun _ z => absurd z List.not_mem_nil) hb.e.2.1 hb.e.2.2 ⟨rfl, rfl, hb.e.1⟩
            have hf := (if_neg c_99).symm.trans hf
            cases hf
    refine rb_sub [1, 0] rfl ?_
    exact L_l19_43 4096 h_35 ((((n + 1) + k_9) + k_21) + k_36) _ _ _ _ hf hb
  · dsimp only at hf
    by_cases c_100 : E_29 = "RainbowOperators$SyntaxFault"
    · have hf := (if_pos c_100).symm.trans hf
      subst c_100
      refine rb_callV (As := []) (rest := [.ref n]) C mi_X13_command sv_X13_126 (hp_k_isC C.pf e_17 ck_X13) (ct_X13_command Ev h_8 ((n + 1) + k_9) o (.inr ("RainbowOperators$SyntaxFault", q_30)) _ _ _ e_23) rfl rfl (Nat.le_of_ble_eq_true rfl) ⟨Nat.le_of_ble_eq_true rfl, Nat.le_of_ble_eq_true rfl, Bd.c1 hb ea_24, Bd.s1 hb eb_25⟩ dX13_text_10 (rb_xY (E := "RainbowOperators$SyntaxFault") (rb_wX (kc := (((0 + 1) + k_9) + k_21)) (ks := (((0 + 3) + s_10) + s_22)) rfl rfl ?_)) rb_kY
      have hb := Bd.ade hb ea_24 eb_25
      cases hf
      exact rb_out C (fun _ z => absurd z List.not_mem_nil) hb.e.2.1 hb.e.2.2 ⟨rfl, rfl, hb.e.1⟩
    have hf := (if_neg c_100).symm.trans hf
    cases hf
def f_J29_requireNonNull (Ev : rb_E) (h : AH) (x0 : Nat) : Option Nat := (some x0)
abbrev rm_J29_requireNonNull : Room := { frames := 0, cells := 0, slots := 0, locals := 0 }
set_option maxHeartbeats 4000000 in
theorem ct_J29_requireNonNull (Ev : rb_E) (h : AH) (n : Nat) (x0 : Nat) (r : Nat) (hf : f_J29_requireNonNull Ev h x0 = some r) : Ct Ev yJ29_requireNonNull (ws_ yJ29_requireNonNull cJ29_requireNonNull 1 (some (.object "java/lang/Object"))) (rm_J29_requireNonNull) [.ref x0] h n (pX (.inl (some (.ref r))) h n) := by
  rw [f_J29_requireNonNull] at hf
  refine Ct.of rfl (Nat.le_of_ble_eq_true rfl) fun X C hnm => ?_
  have C : Cx Ev X RJ29 cJ29_requireNonNull 1 (some (.object "java/lang/Object")) [] := C
  show Wa Ev X (rm_J29_requireNonNull) 1 h n 0 0 (rb_MQ Ev X (rm_J29_requireNonNull) (pX (.inl (some (.ref r))) h n)) 0 [(0, .ref x0)] []
  refine rb_aload_n C dJ29_requireNonNull_0 rfl 0 rfl ?_
  refine rb_ifnonnull (tgt := 12) C dJ29_requireNonNull_1 (by decide) ?_
  refine rb_aload_n C dJ29_requireNonNull_12 rfl 0 rfl ?_
  cases hf
  exact rb_aret C rfl (Or.inl ⟨_, rfl⟩) (Or.inr ⟨_, rfl⟩) (Nat.zero_le _) (Nat.zero_le _) dJ29_requireNonNull_13 ⟨rfl, rfl, rfl⟩
def f_J28_init (Ev : rb_E) (h : AH) (n : Nat) (o : Nat) (x1 : Nat) : Option (Unit × AH × Nat × Nat) := ((hp_put h o 28 0 (.ref x1)).bind fun h_1 => (some ((), h_1, 0, 0)))
abbrev rm_J28_init (k s : Nat) : Room := { frames := 1, cells := k, slots := s, locals := 40 }
set_option maxHeartbeats 4000000 in
theorem ct_J28_init (Ev : rb_E) (h : AH) (n : Nat) (o : Nat) (x1 : Nat) (r : Unit) (h' : AH) (k s : Nat) (hf : f_J28_init Ev h n o x1 = some (r, h', k, s)) : Ct Ev yJ28_init (ws_ yJ28_init cJ28_init 2 none) (rm_J28_init k s) [.ref o, .ref x1] h n (pX (.inl (none)) h' (n + k)) := by
  rw [f_J28_init] at hf
  refine Ct.of rfl (Nat.le_of_ble_eq_true rfl) fun X C hnm => ?_
  have C : Cx Ev X RJ28 cJ28_init 2 none [] := C
  show Wa Ev X (rm_J28_init k s) 2 h n 0 0 (rb_MQ Ev X (rm_J28_init k s) (pX (.inl (none)) h' (n + k))) 0 [(0, .ref o), (1, .ref x1)] []
  have hb : Bd (n + k) k s n 0 0 k s := ⟨rfl, Nat.le_of_eq (Nat.zero_add _), Nat.le_of_eq (Nat.zero_add _)⟩
  refine rb_aload_n C dJ28_init_0 rfl 0 rfl ?_
  refine rb_objInit C q2093 q123 q124 dJ28_init_1 (Nat.le_of_ble_eq_true rfl) (Nat.le_of_ble_eq_true rfl) ?_
  refine rb_aload_n C dJ28_init_4 rfl 0 rfl ?_
  refine rb_aload_n C dJ28_init_5 rfl 1 rfl ?_
  obtain ⟨h_1, e_2, hf⟩ := rb_bd hf
  refine rb_hputF C ff_J28_13_J28 hnm e_2 rfl rfl dJ28_init_6 ?_
  cases hf
  exact rb_vret C rfl hb.e.2.1 hb.e.2.2 dJ28_init_9 ⟨rfl, rfl, hb.e.1⟩
def f_J28_of (Ev : rb_E) (h : AH) (n : Nat) (x0 : Nat) : Option (Nat × AH × Nat × Nat) := (ad 1 1 (rb_lt (va_up h n (some (.inr (28, [.null])))) fun h_5 => ((f_J29_requireNonNull Ev h_5 x0).bind fun v_7 => ((f_J28_init Ev h_5 (n + 1) n v_7).bind fun (r_10, h_11, k_12, s_13) => (ad k_12 s_13 (some (n, h_11, 0, 0)))))))
abbrev rm_J28_of (k s : Nat) : Room := { frames := 2, cells := k, slots := s, locals := 61 }
set_option maxHeartbeats 4000000 in
theorem ct_J28_of (Ev : rb_E) (h : AH) (n : Nat) (x0 : Nat) (r : Nat) (h' : AH) (k s : Nat) (hf : f_J28_of Ev h n x0 = some (r, h', k, s)) : Ct Ev yJ28_of (ws_ yJ28_of cJ28_of 1 (some (.object "java/util/Optional"))) (rm_J28_of k s) [.ref x0] h n (pX (.inl (some (.ref r))) h' (n + k)) := by
  rw [f_J28_of] at hf
  refine Ct.of rfl (Nat.le_of_ble_eq_true rfl) fun X C hnm => ?_
  have C : Cx Ev X RJ28 cJ28_of 1 (some (.object "java/util/Optional")) [] := C
  show Wa Ev X (rm_J28_of k s) 1 h n 0 0 (rb_MQ Ev X (rm_J28_of k s) (pX (.inl (some (.ref r))) h' (n + k))) 0 [(0, .ref x0)] []
  have hb : Bd (n + k) k s n 0 0 k s := ⟨rfl, Nat.le_of_eq (Nat.zero_add _), Nat.le_of_eq (Nat.zero_add _)⟩
  obtain ⟨a_3, b_4, hf, ea_1, eb_2⟩ := ad_at hf
  refine rb_hnew C ck_J28 q2085 q2086 q114 [.null] rfl (Bd.c1 hb ea_1) (Bd.s1 hb eb_2) dJ28_of_0 ?_
  have hb := Bd.ade hb ea_1 eb_2
  obtain ⟨h_5, e_h_5⟩ : ∃ z, z = (va_up h n (some (.inr (28, [.null])))) := ⟨_, rfl⟩
  rw [← e_h_5]
  have hf := rb_let hf e_h_5
  refine rb_dup C dJ28_of_3 rfl ?_
  refine rb_aload_n C dJ28_of_4 rfl 0 rfl ?_
  obtain ⟨v_7, e_8, hf⟩ := rb_bd hf
  refine rb_callS (As := [.ref x0]) (rest := [.ref n, .ref n]) C mi_J29_requireNonNull ss_J28_17 (ct_J29_requireNonNull Ev h_5 (n + 1) x0 _ e_8) rfl rfl (Nat.le_of_ble_eq_true rfl) ⟨Nat.le_of_ble_eq_true rfl, Nat.le_of_ble_eq_true rfl, hb.c0, hb.s0⟩ dJ28_of_5 rb_xX (rb_kX (rb_w (kc := (0 + 1)) (ks := (0 + 1)) rfl rfl ?_))
  obtain ⟨⟨r_10, h_11, k_12, s_13⟩, e_14, hf⟩ := rb_bd hf
  obtain ⟨a_17, b_18, hf, ea_15, eb_16⟩ := ad_at hf
  refine rb_callI (As := [.ref v_7]) (rest := [.ref n]) C mi_J28_init si_J28_23 (ct_J28_init Ev h_5 (n + 1) n v_7 r_10 _ _ _ e_14) rfl rfl (Nat.le_of_ble_eq_true rfl) ⟨Nat.le_of_ble_eq_true rfl, Nat.le_of_ble_eq_true rfl, Bd.c1 hb ea_15, Bd.s1 hb eb_16⟩ dJ28_of_8 rb_xX (rb_kX (rb_w (kc := ((0 + 1) + k_12)) (ks := ((0 + 1) + s_13)) rfl rfl ?_))
  have hb := Bd.ade hb ea_15 eb_16
  cases hf
  exact rb_aret C rfl (Or.inl ⟨_, rfl⟩) (Or.inr ⟨_, rfl⟩) hb.e.2.1 hb.e.2.2 dJ28_of_11 ⟨rfl, rfl, hb.e.1⟩
def f_J28_empty (Ev : rb_E) (h : AH) : Option Nat := ((hp_sp Ev "java/util/Optional" "EMPTY").bind fun v_1 => (some v_1))
abbrev rm_J28_empty : Room := { frames := 0, cells := 0, slots := 0, locals := 0 }
set_option maxHeartbeats 4000000 in
theorem ct_J28_empty (Ev : rb_E) (h : AH) (n : Nat)  (r : Nat) (hf : f_J28_empty Ev h = some r) : Ct Ev yJ28_empty (ws_ yJ28_empty cJ28_empty 1 (some (.object "java/util/Optional"))) (rm_J28_empty) [] h n (pX (.inl (some (.ref r))) h n) := by
  rw [f_J28_empty] at hf
  refine Ct.of rfl (Nat.le_of_ble_eq_true rfl) fun X C hnm => ?_
  have C : Cx Ev X RJ28 cJ28_empty 1 (some (.object "java/util/Optional")) [] := C
  show Wa Ev X (rm_J28_empty) 1 h n 0 0 (rb_MQ Ev X (rm_J28_empty) (pX (.inl (some (.ref r))) h n)) 0 [] []
  obtain ⟨v_1, e_2, hf⟩ := rb_bd hf
  refine rb_hsp C q2102 q2103 e_2 dJ28_empty_0 ?_
  refine rb_astore_n (lv' := [(0, .ref v_1)]) C dJ28_empty_3 rfl (by decide) rfl ?_
  refine rb_aload_n C dJ28_empty_4 rfl 0 rfl ?_
  cases hf
  exact rb_aret C rfl (Or.inl ⟨_, rfl⟩) (Or.inr ⟨_, rfl⟩) (Nat.zero_le _) (Nat.zero_le _) dJ28_empty_5 ⟨rfl, rfl, rfl⟩
def f_X1_parse (Ev : rb_E) (h : AH) (n : Nat) (o : Nat) : Option (Nat × AH × Nat × Nat) := (ad 1 2 (rb_lt (va_up h n (some (.inr (11, [.int 0, .null])))) fun h_5 => ((f_X13_init Ev h_5 (n + 1) n o).bind fun (r_7, h_8, k_9, s_10) => (ad k_9 s_10 ((hp_k Ev h_8 n 11).bind fun u_16 => ((f_X13_text Ev h_8 ((n + 1) + k_9) n).bind fun (r_19, h_20, k_21, s_22) => (ad k_21 s_22 (match r_19 with | .inl v_28 => ((f_J28_of Ev h_20 (((n + 1) + k_9) + k_21) v_28).bind fun (r_32, h_33, k_34, s_35) => (ad k_34 s_35 ((hp_p Ev h_33 o 0 2).bind fun v_41 => ((hp_k Ev h_33 v_41 13).bind fun u_43 => ((f_J1_setLength Ev h_33 ((((n + 1) + k_9) + k_21) + k_34) v_41 0).bind fun (r_46, h_47, k_48, s_49) => (ad k_48 s_49 (some (r_32, h_47, 0, 0)))))))) | .inr (E_29, q_30) => (if E_29 = "RainbowOperators$SyntaxFault" then ((hp_i Ev h_20 q_30 12 6).bind fun v_56 => ((hp_put h_20 o 0 4 (.int v_56)).bind fun h_58 => ((f_J28_empty Ev h_58 ).bind fun v_61 => ((hp_p Ev h_58 o 0 2).bind fun v_63 => ((hp_k Ev h_58 v_63 13).bind fun u_65 => ((f_J1_setLength Ev h_58 (((n + 1) + k_9) + k_21) v_63 0).bind fun (r_68, h_69, k_70, s_71) => (ad k_70 s_71 (some (v_61, h_69, 0, 0))))))))) else none)))))))))
abbrev rm_X1_parse (k s : Nat) : Room := { frames := 13, cells := k, slots := s, locals := 293 }
set_option maxHeartbeats 4000000 in
theorem ct_X1_parse (Ev : rb_E) (h : AH) (n : Nat) (o : Nat) (r : Nat) (h' : AH) (k s : Nat) (hf : f_X1_parse Ev h n o = some (r, h', k, s)) : Ct Ev yX1_parse (wsW_ yX1_parse cX1_parse 4 (some (.object "java/util/Optional")) ([((0), (15), (25), (346)), ((0), (15), (48), (0)), ((25), (38), (48), (0))])) (rm_X1_parse k s) [.ref o] h n (pX (.inl (some (.ref r))) h' (n + k)) := by
  rw [f_X1_parse] at hf
  refine Ct.ofH (hs := ([((0), (15), (25), (346)), ((0), (15), (48), (0)), ((25), (38), (48), (0))])) rfl (Nat.le_of_ble_eq_true rfl) fun X C hnm => ?_
  have C : Cx Ev X RX1 cX1_parse 4 (some (.object "java/util/Optional")) (tableOf ([((0), (15), (25), (346)), ((0), (15), (48), (0)), ((25), (38), (48), (0))])) := C
  show Wa Ev X (rm_X1_parse k s) 4 h n 0 0 (rb_MQ Ev X (rm_X1_parse k s) (pX (.inl (some (.ref r))) h' (n + k))) 0 [(0, .ref o)] []
  have hb : Bd (n + k) k s n 0 0 k s := ⟨rfl, Nat.le_of_eq (Nat.zero_add _), Nat.le_of_eq (Nat.zero_add _)⟩
  obtain ⟨a_3, b_4, hf, ea_1, eb_2⟩ := ad_at hf
  refine rb_hnew C ck_X13 q1922 q1923 q110 [.int 0, .null] rfl (Bd.c1 hb ea_1) (Bd.s1 hb eb_2) dX1_parse_0 ?_
  have hb := Bd.ade hb ea_1 eb_2
  obtain ⟨h_5, e_h_5⟩ : ∃ z, z = (va_up h n (some (.inr (11, [.int 0, .null])))) := ⟨_, rfl⟩
  rw [← e_h_5]
  have hf := rb_let hf e_h_5
  refine rb_dup C dX1_parse_3 rfl ?_
  refine rb_aload_n C dX1_parse_4 rfl 0 rfl ?_
  obtain ⟨⟨r_7, h_8, k_9, s_10⟩, e_11, hf⟩ := rb_bd hf
  obtain ⟨a_14, b_15, hf, ea_12, eb_13⟩ := ad_at hf
  refine rb_callIN (As := [.ref o]) (rest := [.ref n]) C mi_X13_init si_X1_332 (ct_X13_init Ev h_5 (n + 1) n o r_7 _ _ _ e_11) rfl rfl (Nat.le_of_ble_eq_true rfl) ⟨Nat.le_of_ble_eq_true rfl, Nat.le_of_ble_eq_true rfl, Bd.c1 hb ea_12, Bd.s1 hb eb_13⟩ dX1_parse_5 rb_xX (rb_kX (rb_w (kc := ((0 + 1) + k_9)) (ks := ((0 + 2) + s_10)) rfl rfl ?_))
  have hb := Bd.ade hb ea_12 eb_13
  obtain ⟨u_16, e_17, hf⟩ := rb_bd hf
  obtain ⟨⟨r_19, h_20, k_21, s_22⟩, e_23, hf⟩ := rb_bd hf
  obtain ⟨a_26, b_27, hf, ea_24, eb_25⟩ := ad_at hf
  rcases r_19 with v_28 | ⟨E_29, q_30⟩
  · dsimp only at hf
    refine rb_callV (As := []) (rest := []) C mi_X13_text sv_X1_333 (hp_k_isC C.pf e_17 ck_X13) (ct_X13_text Ev h_8 ((n + 1) + k_9) n (.inl v_28) _ _ _ e_23) rfl rfl (Nat.le_of_ble_eq_true rfl) ⟨Nat.le_of_ble_eq_true rfl, Nat.le_of_ble_eq_true rfl, Bd.c1 hb ea_24, Bd.s1 hb eb_25⟩ dX1_parse_8 rb_xX (rb_kX (r := some (.ref v_28)) (rb_w (kc := (((0 + 1) + k_9) + k_21)) (ks := (((0 + 2) + s_10) + s_22)) rfl rfl ?_))
    have hb := Bd.ade hb ea_24 eb_25
    obtain ⟨⟨r_32, h_33, k_34, s_35⟩, e_36, hf⟩ := rb_bd hf
    obtain ⟨a_39, b_40, hf, ea_37, eb_38⟩ := ad_at hf
    refine rb_callS (As := [.ref v_28]) (rest := []) C mi_J28_of ss_X1_337 (ct_J28_of Ev h_20 (((n + 1) + k_9) + k_21) v_28 r_32 _ _ _ e_36) rfl rfl (Nat.le_of_ble_eq_true rfl) ⟨Nat.le_of_ble_eq_true rfl, Nat.le_of_ble_eq_true rfl, Bd.c1 hb ea_37, Bd.s1 hb eb_38⟩ dX1_parse_11 rb_xX (rb_kX (rb_w (kc := ((((0 + 1) + k_9) + k_21) + k_34)) (ks := ((((0 + 2) + s_10) + s_22) + s_35)) rfl rfl ?_))
    have hb := Bd.ade hb ea_37 eb_38
    refine rb_astore_n (lv' := [(1, .ref r_32), (0, .ref o)]) C dX1_parse_14 rfl (by decide) rfl ?_
    refine rb_aload_n C dX1_parse_15 rfl 1 rfl ?_
    obtain ⟨v_41, e_42, hf⟩ := rb_bd hf
    refine rb_hP C fl_X1_115_X1 e_42 dX1_parse_16 ?_
    refine rb_iconst (v := 0) C dX1_parse_19 rfl ?_
    obtain ⟨u_43, e_44, hf⟩ := rb_bd hf
    obtain ⟨⟨r_46, h_47, k_48, s_49⟩, e_50, hf⟩ := rb_bd hf
    obtain ⟨a_53, b_54, hf, ea_51, eb_52⟩ := ad_at hf
    refine rb_callV (As := [.int 0]) (rest := []) C mi_J1_setLength sv_X1_342 (hp_k_isC C.pf e_44 ck_J1) (ct_J1_setLength Ev h_33 ((((n + 1) + k_9) + k_21) + k_34) v_41 0 r_46 _ _ _ e_50) rfl rfl (Nat.le_of_ble_eq_true rfl) ⟨Nat.le_of_ble_eq_true rfl, Nat.le_of_ble_eq_true rfl, Bd.c1 hb ea_51, Bd.s1 hb eb_52⟩ dX1_parse_20 rb_xX (rb_kX (rb_w (kc := (((((0 + 1) + k_9) + k_21) + k_34) + k_48)) (ks := (((((0 + 2) + s_10) + s_22) + s_35) + s_49)) rfl rfl ?_))
    have hb := Bd.ade hb ea_51 eb_52
    refine rb_aload_n C dX1_parse_23 rfl 0 rfl ?_
    cases hf
    exact rb_aret C rfl (Or.inl ⟨_, rfl⟩) (Or.inr ⟨_, rfl⟩) hb.e.2.1 hb.e.2.2 dX1_parse_24 ⟨rfl, rfl, hb.e.1⟩
  · dsimp only at hf
    by_cases c_55 : E_29 = "RainbowOperators$SyntaxFault"
    · have hf := (if_pos c_55).symm.trans hf
      subst c_55
      refine rb_callV (As := []) (rest := []) C mi_X13_text sv_X1_333 (hp_k_isC C.pf e_17 ck_X13) (ct_X13_text Ev h_8 ((n + 1) + k_9) n (.inr ("RainbowOperators$SyntaxFault", q_30)) _ _ _ e_23) rfl rfl (Nat.le_of_ble_eq_true rfl) ⟨Nat.le_of_ble_eq_true rfl, Nat.le_of_ble_eq_true rfl, Bd.c1 hb ea_24, Bd.s1 hb eb_25⟩ dX1_parse_8 (rb_xY (E := "RainbowOperators$SyntaxFault") (rb_wX (kc := (((0 + 1) + k_9) + k_21)) (ks := (((0 + 2) + s_10) + s_22)) rfl rfl ?_)) rb_kY
      have hb := Bd.ade hb ea_24 eb_25
      refine rb_catch C (pre := []) (x := ⟨0, 15, 25, 346⟩) (suf := [⟨0, 15, 48, 0⟩, ⟨25, 38, 48, 0⟩]) rfl ?_ rfl (by decide) q1921 q2007 ?_
      · intro z hz
        exact absurd hz List.not_mem_nil
      refine rb_astore_n (lv' := [(1, .ref q_30), (0, .ref o)]) C dX1_parse_25 rfl (by decide) rfl ?_
      refine rb_aload_n C dX1_parse_26 rfl 1 rfl ?_
      refine rb_aload_n C dX1_parse_27 rfl 0 rfl ?_
      obtain ⟨v_56, e_57, hf⟩ := rb_bd hf
      refine rb_hI C fl_X1_348_X14 e_57 dX1_parse_28 ?_
      obtain ⟨h_58, e_59, hf⟩ := rb_bd hf
      refine rb_hput C fw_X1_123_X1 e_59 rfl rfl dX1_parse_31 ?_
      obtain ⟨v_61, e_62, hf⟩ := rb_bd hf
      refine rb_callS (As := []) (rest := []) C mi_J28_empty ss_X1_351 (ct_J28_empty Ev h_58 (((n + 1) + k_9) + k_21)  _ e_62) rfl rfl (Nat.le_of_ble_eq_true rfl) ⟨Nat.le_of_ble_eq_true rfl, Nat.le_of_ble_eq_true rfl, hb.c0, hb.s0⟩ dX1_parse_34 rb_xX (rb_kX (rb_w (kc := (((0 + 1) + k_9) + k_21)) (ks := (((0 + 2) + s_10) + s_22)) rfl rfl ?_))
      refine rb_astore_n (lv' := [(2, .ref v_61), (1, .ref q_30), (0, .ref o)]) C dX1_parse_37 rfl (by decide) rfl ?_
      refine rb_aload_n C dX1_parse_38 rfl 2 rfl ?_
      obtain ⟨v_63, e_64, hf⟩ := rb_bd hf
      refine rb_hP C fl_X1_115_X1 e_64 dX1_parse_39 ?_
      refine rb_iconst (v := 0) C dX1_parse_42 rfl ?_
      obtain ⟨u_65, e_66, hf⟩ := rb_bd hf
      obtain ⟨⟨r_68, h_69, k_70, s_71⟩, e_72, hf⟩ := rb_bd hf
      obtain ⟨a_75, b_76, hf, ea_73, eb_74⟩ := ad_at hf
      refine rb_callV (As := [.int 0]) (rest := []) C mi_J1_setLength sv_X1_342 (hp_k_isC C.pf e_66 ck_J1) (ct_J1_setLength Ev h_58 (((n + 1) + k_9) + k_21) v_63 0 r_68 _ _ _ e_72) rfl rfl (Nat.le_of_ble_eq_true rfl) ⟨Nat.le_of_ble_eq_true rfl, Nat.le_of_ble_eq_true rfl, Bd.c1 hb ea_73, Bd.s1 hb eb_74⟩ dX1_parse_43 rb_xX (rb_kX (rb_w (kc := ((((0 + 1) + k_9) + k_21) + k_70)) (ks := ((((0 + 2) + s_10) + s_22) + s_71)) rfl rfl ?_))
      have hb := Bd.ade hb ea_73 eb_74
      refine rb_aload_n C dX1_parse_46 rfl 0 rfl ?_
      cases hf
      exact rb_aret C rfl (Or.inl ⟨_, rfl⟩) (Or.inr ⟨_, rfl⟩) hb.e.2.1 hb.e.2.2 dX1_parse_47 ⟨rfl, rfl, hb.e.1⟩
    have hf := (if_neg c_55).symm.trans hf
    cases hf
def f_J28_isPresent (Ev : rb_E) (h : AH) (o : Nat) : Option Int32 := ((hp_o Ev h o 28 0).bind fun v_1 => (match v_1 with | none => (some 0) | some v_1_q => (some 1)))
abbrev rm_J28_isPresent : Room := { frames := 0, cells := 0, slots := 0, locals := 0 }
set_option maxHeartbeats 4000000 in
theorem ct_J28_isPresent (Ev : rb_E) (h : AH) (n : Nat) (o : Nat) (r : Int32) (hf : f_J28_isPresent Ev h o = some r) : Ct Ev yJ28_isPresent (ws_ yJ28_isPresent cJ28_isPresent 1 (some .boolean)) (rm_J28_isPresent) [.ref o] h n (pXi .boolean r h n) := by
  rw [f_J28_isPresent] at hf
  refine Ct.of rfl (Nat.le_of_ble_eq_true rfl) fun X C hnm => ?_
  have C : Cx Ev X RJ28 cJ28_isPresent 1 (some .boolean) [] := C
  show Wa Ev X (rm_J28_isPresent) 1 h n 0 0 (rb_MQ Ev X (rm_J28_isPresent) (pXi .boolean r h n)) 0 [(0, .ref o)] []
  refine rb_aload_n C dJ28_isPresent_0 rfl 0 rfl ?_
  obtain ⟨v_1, e_2, hf⟩ := rb_bd hf
  refine rb_hO C fl_J28_13_J28 e_2 dJ28_isPresent_1 ?_
  cases v_1 with
  | none =>
    dsimp only at hf
    refine rb_ifnullN (tgt := 11) C dJ28_isPresent_4 (by decide) ?_
    refine rb_iconst (v := 0) C dJ28_isPresent_11 rfl ?_
    cases hf
    exact rb_iret C rfl rfl (Nat.zero_le _) (Nat.zero_le _) dJ28_isPresent_12 ⟨rfl, rfl, rfl, rfl⟩
  | some v_1_q =>
    dsimp only at hf
    refine rb_ifnull C dJ28_isPresent_4 ?_
    refine rb_iconst (v := 1) C dJ28_isPresent_7 rfl ?_
    refine rb_goto (tgt := 12) C dJ28_isPresent_8 (by decide) ?_
    cases hf
    exact rb_iret C rfl rfl (Nat.zero_le _) (Nat.zero_le _) dJ28_isPresent_12 ⟨rfl, rfl, rfl, rfl⟩
def f_J28_get (Ev : rb_E) (h : AH) (o : Nat) : Option Nat := ((hp_o Ev h o 28 0).bind fun v_1 => (match v_1 with | none => none | some v_1_q => ((hp_o Ev h o 28 0).bind fun v_3 => (match v_3 with | none => none | some v_3_q => (some v_3_q)))))
abbrev rm_J28_get : Room := { frames := 0, cells := 0, slots := 0, locals := 0 }
set_option maxHeartbeats 4000000 in
theorem ct_J28_get (Ev : rb_E) (h : AH) (n : Nat) (o : Nat) (r : Nat) (hf : f_J28_get Ev h o = some r) : Ct Ev yJ28_get (ws_ yJ28_get cJ28_get 1 (some (.object "java/lang/Object"))) (rm_J28_get) [.ref o] h n (pX (.inl (some (.ref r))) h n) := by
  rw [f_J28_get] at hf
  refine Ct.of rfl (Nat.le_of_ble_eq_true rfl) fun X C hnm => ?_
  have C : Cx Ev X RJ28 cJ28_get 1 (some (.object "java/lang/Object")) [] := C
  show Wa Ev X (rm_J28_get) 1 h n 0 0 (rb_MQ Ev X (rm_J28_get) (pX (.inl (some (.ref r))) h n)) 0 [(0, .ref o)] []
  refine rb_aload_n C dJ28_get_0 rfl 0 rfl ?_
  obtain ⟨v_1, e_2, hf⟩ := rb_bd hf
  refine rb_hO C fl_J28_13_J28 e_2 dJ28_get_1 ?_
  cases v_1 with
  | none =>
    dsimp only at hf
    refine rb_ifnonnullN C dJ28_get_4 ?_
    cases hf
  | some v_1_q =>
    dsimp only at hf
    refine rb_ifnonnull (tgt := 17) C dJ28_get_4 (by decide) ?_
    refine rb_aload_n C dJ28_get_17 rfl 0 rfl ?_
    obtain ⟨v_3, e_4, hf⟩ := rb_bd hf
    refine rb_hO C fl_J28_13_J28 e_4 dJ28_get_18 ?_
    cases v_3 with
    | none =>
      dsimp only at hf
      cases hf
    | some v_3_q =>
      dsimp only at hf
      cases hf
      exact rb_aret C rfl (Or.inl ⟨_, rfl⟩) (Or.inr ⟨_, rfl⟩) (Nat.zero_le _) (Nat.zero_le _) dJ28_get_21 ⟨rfl, rfl, rfl⟩
def f_J30_init (Ev : rb_E) (h : AH) (n : Nat) (o : Nat) (x1 : Nat) : Option (Unit × AH × Nat × Nat) := ((hp_put h o 29 3 (.ref x1)).bind fun h_1 => ((hp_put h_1 o 29 1 (.int (-1))).bind fun h_3 => ((hp_p Ev h_3 o 29 3).bind fun v_5 => ((hp_i Ev h_3 v_5 27 0).bind fun v_7 => ((hp_put h_3 o 29 2 (.int v_7)).bind fun h_9 => (some ((), h_9, 0, 0)))))))
abbrev rm_J30_init (k s : Nat) : Room := { frames := 1, cells := k, slots := s, locals := 40 }
set_option maxHeartbeats 4000000 in
theorem ct_J30_init (Ev : rb_E) (h : AH) (n : Nat) (o : Nat) (x1 : Nat) (r : Unit) (h' : AH) (k s : Nat) (hf : f_J30_init Ev h n o x1 = some (r, h', k, s)) : Ct Ev yJ30_init (ws_ yJ30_init cJ30_init 2 none) (rm_J30_init k s) [.ref o, .ref x1] h n (pX (.inl (none)) h' (n + k)) := by
  rw [f_J30_init] at hf
  refine Ct.of rfl (Nat.le_of_ble_eq_true rfl) fun X C hnm => ?_
  have C : Cx Ev X RJ30 cJ30_init 2 none [] := C
  show Wa Ev X (rm_J30_init k s) 2 h n 0 0 (rb_MQ Ev X (rm_J30_init k s) (pX (.inl (none)) h' (n + k))) 0 [(0, .ref o), (1, .ref x1)] []
  have hb : Bd (n + k) k s n 0 0 k s := ⟨rfl, Nat.le_of_eq (Nat.zero_add _), Nat.le_of_eq (Nat.zero_add _)⟩
  refine rb_aload_n C dJ30_init_0 rfl 0 rfl ?_
  refine rb_aload_n C dJ30_init_1 rfl 1 rfl ?_
  obtain ⟨h_1, e_2, hf⟩ := rb_bd hf
  refine rb_hputF C ff_J30_1_J30 hnm e_2 rfl rfl dJ30_init_2 ?_
  refine rb_aload_n C dJ30_init_5 rfl 0 rfl ?_
  refine rb_objInit C q2136 q123 q124 dJ30_init_6 (Nat.le_of_ble_eq_true rfl) (Nat.le_of_ble_eq_true rfl) ?_
  refine rb_aload_n C dJ30_init_9 rfl 0 rfl ?_
  refine rb_iconst (v := (-1)) C dJ30_init_10 rfl ?_
  obtain ⟨h_3, e_4, hf⟩ := rb_bd hf
  refine rb_hput C fw_J30_13_J30 e_4 rfl rfl dJ30_init_11 ?_
  refine rb_aload_n C dJ30_init_14 rfl 0 rfl ?_
  refine rb_aload_n C dJ30_init_15 rfl 0 rfl ?_
  obtain ⟨v_5, e_6, hf⟩ := rb_bd hf
  refine rb_hP C fl_J30_1_J30 e_6 dJ30_init_16 ?_
  obtain ⟨v_7, e_8, hf⟩ := rb_bd hf
  refine rb_hIS C fs_J30_17_J27 e_8 dJ30_init_19 ?_
  obtain ⟨h_9, e_10, hf⟩ := rb_bd hf
  refine rb_hput C fw_J30_22_J30 e_10 rfl rfl dJ30_init_22 ?_
  cases hf
  exact rb_vret C rfl hb.e.2.1 hb.e.2.2 dJ30_init_25 ⟨rfl, rfl, hb.e.1⟩
def f_J27_iterator (Ev : rb_E) (h : AH) (n : Nat) (o : Nat) : Option (Nat × AH × Nat × Nat) := (ad 1 4 (rb_lt (va_up h n (some (.inr (29, [.int 0, .int 0, .int 0, .null])))) fun h_5 => ((f_J30_init Ev h_5 (n + 1) n o).bind fun (r_7, h_8, k_9, s_10) => (ad k_9 s_10 (some (n, h_8, 0, 0))))))
abbrev rm_J27_iterator (k s : Nat) : Room := { frames := 2, cells := k, slots := s, locals := 61 }
set_option maxHeartbeats 4000000 in
theorem ct_J27_iterator (Ev : rb_E) (h : AH) (n : Nat) (o : Nat) (r : Nat) (h' : AH) (k s : Nat) (hf : f_J27_iterator Ev h n o = some (r, h', k, s)) : Ct Ev yJ27_iterator (ws_ yJ27_iterator cJ27_iterator 1 (some (.object "java/util/Iterator"))) (rm_J27_iterator k s) [.ref o] h n (pX (.inl (some (.ref r))) h' (n + k)) := by
  rw [f_J27_iterator] at hf
  refine Ct.of rfl (Nat.le_of_ble_eq_true rfl) fun X C hnm => ?_
  have C : Cx Ev X RJ27 cJ27_iterator 1 (some (.object "java/util/Iterator")) [] := C
  show Wa Ev X (rm_J27_iterator k s) 1 h n 0 0 (rb_MQ Ev X (rm_J27_iterator k s) (pX (.inl (some (.ref r))) h' (n + k))) 0 [(0, .ref o)] []
  have hb : Bd (n + k) k s n 0 0 k s := ⟨rfl, Nat.le_of_eq (Nat.zero_add _), Nat.le_of_eq (Nat.zero_add _)⟩
  obtain ⟨a_3, b_4, hf, ea_1, eb_2⟩ := ad_at hf
  refine rb_hnew C ck_J30 q2131 q2132 q116 [.int 0, .int 0, .int 0, .null] rfl (Bd.c1 hb ea_1) (Bd.s1 hb eb_2) dJ27_iterator_0 ?_
  have hb := Bd.ade hb ea_1 eb_2
  obtain ⟨h_5, e_h_5⟩ : ∃ z, z = (va_up h n (some (.inr (29, [.int 0, .int 0, .int 0, .null])))) := ⟨_, rfl⟩
  rw [← e_h_5]
  have hf := rb_let hf e_h_5
  refine rb_dup C dJ27_iterator_3 rfl ?_
  refine rb_aload_n C dJ27_iterator_4 rfl 0 rfl ?_
  obtain ⟨⟨r_7, h_8, k_9, s_10⟩, e_11, hf⟩ := rb_bd hf
  obtain ⟨a_14, b_15, hf, ea_12, eb_13⟩ := ad_at hf
  refine rb_callI (As := [.ref o]) (rest := [.ref n]) C mi_J30_init si_J27_269 (ct_J30_init Ev h_5 (n + 1) n o r_7 _ _ _ e_11) rfl rfl (Nat.le_of_ble_eq_true rfl) ⟨Nat.le_of_ble_eq_true rfl, Nat.le_of_ble_eq_true rfl, Bd.c1 hb ea_12, Bd.s1 hb eb_13⟩ dJ27_iterator_5 rb_xX (rb_kX (rb_w (kc := ((0 + 1) + k_9)) (ks := ((0 + 4) + s_10)) rfl rfl ?_))
  have hb := Bd.ade hb ea_12 eb_13
  cases hf
  exact rb_aret C rfl (Or.inl ⟨_, rfl⟩) (Or.inr ⟨_, rfl⟩) hb.e.2.1 hb.e.2.2 dJ27_iterator_8 ⟨rfl, rfl, hb.e.1⟩
def f_J30_hasNext (Ev : rb_E) (h : AH) (o : Nat) : Option Int32 := ((hp_i Ev h o 29 0).bind fun v_1 => ((hp_p Ev h o 29 3).bind fun v_3 => ((hp_i Ev h v_3 27 2).bind fun v_5 => (if v_1 = v_5 then (some 0) else (some 1)))))
abbrev rm_J30_hasNext : Room := { frames := 0, cells := 0, slots := 0, locals := 0 }
set_option maxHeartbeats 4000000 in
theorem ct_J30_hasNext (Ev : rb_E) (h : AH) (n : Nat) (o : Nat) (r : Int32) (hf : f_J30_hasNext Ev h o = some r) : Ct Ev yJ30_hasNext (ws_ yJ30_hasNext cJ30_hasNext 1 (some .boolean)) (rm_J30_hasNext) [.ref o] h n (pXi .boolean r h n) := by
  rw [f_J30_hasNext] at hf
  refine Ct.of rfl (Nat.le_of_ble_eq_true rfl) fun X C hnm => ?_
  have C : Cx Ev X RJ30 cJ30_hasNext 1 (some .boolean) [] := C
  show Wa Ev X (rm_J30_hasNext) 1 h n 0 0 (rb_MQ Ev X (rm_J30_hasNext) (pXi .boolean r h n)) 0 [(0, .ref o)] []
  refine rb_aload_n C dJ30_hasNext_0 rfl 0 rfl ?_
  obtain ⟨v_1, e_2, hf⟩ := rb_bd hf
  refine rb_hI C fl_J30_25_J30 e_2 dJ30_hasNext_1 ?_
  refine rb_aload_n C dJ30_hasNext_4 rfl 0 rfl ?_
  obtain ⟨v_3, e_4, hf⟩ := rb_bd hf
  refine rb_hP C fl_J30_1_J30 e_4 dJ30_hasNext_5 ?_
  obtain ⟨v_5, e_6, hf⟩ := rb_bd hf
  refine rb_hI C fl_J30_28_J27 e_6 dJ30_hasNext_8 ?_
  refine rb_icmp_eq (tgt := 18) C dJ30_hasNext_11 (by decide) (fun c_7 => ?_) (fun c_7 => ?_)
  · have hf := (if_pos c_7).symm.trans hf
    refine rb_iconst (v := 0) C dJ30_hasNext_18 rfl ?_
    cases hf
    exact rb_iret C rfl rfl (Nat.zero_le _) (Nat.zero_le _) dJ30_hasNext_19 ⟨rfl, rfl, rfl, rfl⟩
  · have hf := (if_neg c_7).symm.trans hf
    refine rb_iconst (v := 1) C dJ30_hasNext_14 rfl ?_
    refine rb_goto (tgt := 19) C dJ30_hasNext_15 (by decide) ?_
    cases hf
    exact rb_iret C rfl rfl (Nat.zero_le _) (Nat.zero_le _) dJ30_hasNext_19 ⟨rfl, rfl, rfl, rfl⟩
def f_J30_checkForComodification (Ev : rb_E) (h : AH) (o : Nat) : Option Unit := ((hp_p Ev h o 29 3).bind fun v_1 => ((hp_i Ev h v_1 27 0).bind fun v_3 => ((hp_i Ev h o 29 2).bind fun v_5 => (if v_3 = v_5 then (some ()) else none))))
abbrev rm_J30_checkForComodification : Room := { frames := 0, cells := 0, slots := 0, locals := 0 }
set_option maxHeartbeats 4000000 in
theorem ct_J30_checkForComodification (Ev : rb_E) (h : AH) (n : Nat) (o : Nat) (r : Unit) (hf : f_J30_checkForComodification Ev h o = some r) : Ct Ev yJ30_checkForComodification (ws_ yJ30_checkForComodification cJ30_checkForComodification 1 none) (rm_J30_checkForComodification) [.ref o] h n (pX (.inl (none)) h n) := by
  rw [f_J30_checkForComodification] at hf
  refine Ct.of rfl (Nat.le_of_ble_eq_true rfl) fun X C hnm => ?_
  have C : Cx Ev X RJ30 cJ30_checkForComodification 1 none [] := C
  show Wa Ev X (rm_J30_checkForComodification) 1 h n 0 0 (rb_MQ Ev X (rm_J30_checkForComodification) (pX (.inl (none)) h n)) 0 [(0, .ref o)] []
  refine rb_aload_n C dJ30_checkForComodification_0 rfl 0 rfl ?_
  obtain ⟨v_1, e_2, hf⟩ := rb_bd hf
  refine rb_hP C fl_J30_1_J30 e_2 dJ30_checkForComodification_1 ?_
  obtain ⟨v_3, e_4, hf⟩ := rb_bd hf
  refine rb_hIS C fs_J30_17_J27 e_4 dJ30_checkForComodification_4 ?_
  refine rb_aload_n C dJ30_checkForComodification_7 rfl 0 rfl ?_
  obtain ⟨v_5, e_6, hf⟩ := rb_bd hf
  refine rb_hI C fl_J30_22_J30 e_6 dJ30_checkForComodification_8 ?_
  refine rb_icmp_eq (tgt := 22) C dJ30_checkForComodification_11 (by decide) (fun c_7 => ?_) (fun c_7 => ?_)
  · have hf := (if_pos c_7).symm.trans hf
    cases hf
    exact rb_vret C rfl (Nat.zero_le _) (Nat.zero_le _) dJ30_checkForComodification_22 ⟨rfl, rfl, rfl⟩
  · have hf := (if_neg c_7).symm.trans hf
    cases hf
def f_J30_next (Ev : rb_E) (h : AH) (n : Nat) (o : Nat) : Option (Nat × AH × Nat × Nat) := ((hp_k Ev h o 29).bind fun u_1 => ((f_J30_checkForComodification Ev h o).bind fun v_4 => ((hp_i Ev h o 29 0).bind fun v_6 => ((hp_p Ev h o 29 3).bind fun v_8 => ((hp_i Ev h v_8 27 2).bind fun v_10 => (if v_6 < v_10 then ((hp_p Ev h o 29 3).bind fun v_13 => ((hp_p Ev h v_13 27 1).bind fun v_15 => ((hp_len Ev h v_15 6).bind fun v_17 => (if v_6 < (nI v_17) then ((hp_put h o 29 0 (.int (v_6 + 1))).bind fun h_20 => ((hp_put h_20 o 29 1 (.int v_6)).bind fun h_22 => ((hp_ap Ev h_22 6 v_15 v_6).bind fun v_24 => (some (v_24, h_22, 0, 0))))) else none)))) else none))))))
abbrev rm_J30_next (k s : Nat) : Room := { frames := 1, cells := k, slots := s, locals := 20 }
set_option maxHeartbeats 4000000 in
theorem ct_J30_next (Ev : rb_E) (h : AH) (n : Nat) (o : Nat) (r : Nat) (h' : AH) (k s : Nat) (hf : f_J30_next Ev h n o = some (r, h', k, s)) : Ct Ev yJ30_next (ws_ yJ30_next cJ30_next 3 (some (.object "java/lang/Object"))) (rm_J30_next k s) [.ref o] h n (pX (.inl (some (.ref r))) h' (n + k)) := by
  rw [f_J30_next] at hf
  refine Ct.of rfl (Nat.le_of_ble_eq_true rfl) fun X C hnm => ?_
  have C : Cx Ev X RJ30 cJ30_next 3 (some (.object "java/lang/Object")) [] := C
  show Wa Ev X (rm_J30_next k s) 3 h n 0 0 (rb_MQ Ev X (rm_J30_next k s) (pX (.inl (some (.ref r))) h' (n + k))) 0 [(0, .ref o)] []
  have hb : Bd (n + k) k s n 0 0 k s := ⟨rfl, Nat.le_of_eq (Nat.zero_add _), Nat.le_of_eq (Nat.zero_add _)⟩
  refine rb_aload_n C dJ30_next_0 rfl 0 rfl ?_
  obtain ⟨u_1, e_2, hf⟩ := rb_bd hf
  obtain ⟨v_4, e_5, hf⟩ := rb_bd hf
  refine rb_callV (As := []) (rest := []) C mi_J30_checkForComodification sv_J30_31 (hp_k_isC C.pf e_2 ck_J30) (ct_J30_checkForComodification Ev h n o _ e_5) rfl rfl (Nat.le_of_ble_eq_true rfl) ⟨Nat.le_of_ble_eq_true rfl, Nat.le_of_ble_eq_true rfl, hb.c0, hb.s0⟩ dJ30_next_1 rb_xX (rb_kX (rb_w (kc := 0) (ks := 0) rfl rfl ?_))
  refine rb_aload_n C dJ30_next_4 rfl 0 rfl ?_
  obtain ⟨v_6, e_7, hf⟩ := rb_bd hf
  refine rb_hI C fl_J30_25_J30 e_7 dJ30_next_5 ?_
  refine rb_istore_n (lv' := [(1, .int v_6), (0, .ref o)]) C dJ30_next_8 rfl (by decide) rfl ?_
  refine rb_iload_n C dJ30_next_9 rfl 0 rfl ?_
  refine rb_aload_n C dJ30_next_10 rfl 1 rfl ?_
  obtain ⟨v_8, e_9, hf⟩ := rb_bd hf
  refine rb_hP C fl_J30_1_J30 e_9 dJ30_next_11 ?_
  obtain ⟨v_10, e_11, hf⟩ := rb_bd hf
  refine rb_hI C fl_J30_28_J27 e_11 dJ30_next_14 ?_
  refine rb_icmp_lt (tgt := 28) C dJ30_next_17 (by decide) (fun c_12 => ?_) (fun c_12 => ?_)
  · have hf := (if_pos c_12).symm.trans hf
    refine rb_aload_n C dJ30_next_28 rfl 1 rfl ?_
    obtain ⟨v_13, e_14, hf⟩ := rb_bd hf
    refine rb_hP C fl_J30_1_J30 e_14 dJ30_next_29 ?_
    obtain ⟨v_15, e_16, hf⟩ := rb_bd hf
    refine rb_hP C fl_J30_37_J27 e_16 dJ30_next_32 ?_
    refine rb_astore_n (lv' := [(2, .ref v_15), (1, .int v_6), (0, .ref o)]) C dJ30_next_35 rfl (by decide) rfl ?_
    refine rb_iload_n C dJ30_next_36 rfl 1 rfl ?_
    refine rb_aload_n C dJ30_next_37 rfl 0 rfl ?_
    obtain ⟨v_17, e_18, hf⟩ := rb_bd hf
    refine rb_hlen (t := 6) C rfl e_18 dJ30_next_38 ?_
    refine rb_icmp_lt (tgt := 50) C dJ30_next_39 (by decide) (fun c_19 => ?_) (fun c_19 => ?_)
    · have hf := (if_pos c_19).symm.trans hf
      refine rb_aload_n C dJ30_next_50 rfl 2 rfl ?_
      refine rb_iload_n C dJ30_next_51 rfl 1 rfl ?_
      refine rb_iconst (v := 1) C dJ30_next_52 rfl ?_
      refine rb_iadd C dJ30_next_53 ?_
      obtain ⟨h_20, e_21, hf⟩ := rb_bd hf
      refine rb_hput C fw_J30_25_J30 e_21 rfl rfl dJ30_next_54 ?_
      refine rb_aload_n C dJ30_next_57 rfl 0 rfl ?_
      refine rb_aload_n C dJ30_next_58 rfl 2 rfl ?_
      refine rb_iload_n C dJ30_next_59 rfl 1 rfl ?_
      refine rb_dup_x1 C dJ30_next_60 rfl rfl ?_
      obtain ⟨h_22, e_23, hf⟩ := rb_bd hf
      refine rb_hput C fw_J30_13_J30 e_23 rfl rfl dJ30_next_61 ?_
      obtain ⟨v_24, e_25, hf⟩ := rb_bd hf
      refine rb_hap C 6 rfl rfl e_25 dJ30_next_64 ?_
      cases hf
      exact rb_aret C rfl (Or.inl ⟨_, rfl⟩) (Or.inr ⟨_, rfl⟩) hb.e.2.1 hb.e.2.2 dJ30_next_65 ⟨rfl, rfl, hb.e.1⟩
    · have hf := (if_neg c_19).symm.trans hf
      cases hf
  · have hf := (if_neg c_12).symm.trans hf
    cases hf
def f_X1_applyCommand (Ev : rb_E) (h : AH) (n : Nat) (x0 : Nat) (x1 : Nat) : Option ((Int32 ⊕ (String × Nat)) × AH × Nat × Nat) := ((hp_k Ev h x0 3).bind fun u_1 => ((f_X5_apply Ev h n x0 x1).bind fun (r_4, h_5, k_6, s_7) => (ad k_6 s_7 (match r_4 with | .inl v_13 => (some (.inl v_13, h_5, 0, 0)) | .inr (E_14, q_15) => (if E_14 = "RainbowOperators$Denial" then (some (.inr ("RainbowOperators$Denial", q_15), h_5, 0, 0)) else (if E_14 = "java/lang/IllegalArgumentException" then (ad 1 8 (rb_lt (va_up h_5 (n + k_6) (some (.inr (4, [.null, .null, .null, .null, .null, .int 0, .int 0, .int 0])))) fun h_22 => ((f_X6_init Ev h_22 ((n + k_6) + 1) (n + k_6) 5 0).bind fun (r_24, h_25, k_26, s_27) => (ad k_26 s_27 ((hp_k Ev h_25 (n + k_6) 4).bind fun u_34 => (some (.inr ("RainbowOperators$Denial", (n + k_6)), h_25, 0, 0))))))) else (if E_14 = "java/lang/IndexOutOfBoundsException" then (ad 1 8 (rb_lt (va_up h_5 (n + k_6) (some (.inr (4, [.null, .null, .null, .null, .null, .int 0, .int 0, .int 0])))) fun h_40 => ((f_X6_init Ev h_40 ((n + k_6) + 1) (n + k_6) 5 0).bind fun (r_42, h_43, k_44, s_45) => (ad k_44 s_45 ((hp_k Ev h_43 (n + k_6) 4).bind fun u_52 => (some (.inr ("RainbowOperators$Denial", (n + k_6)), h_43, 0, 0))))))) else none)))))))
abbrev rm_X1_applyCommand (k s : Nat) : Room := { frames := 76, cells := k, slots := s, locals := 2891 }
set_option maxHeartbeats 4000000 in
theorem ct_X1_applyCommand (Ev : rb_E) (h : AH) (n : Nat) (x0 : Nat) (x1 : Nat) (r : Int32 ⊕ (String × Nat)) (h' : AH) (k s : Nat) (hf : f_X1_applyCommand Ev h n x0 x1 = some (r, h', k, s)) : Ct Ev yX1_applyCommand (wsW_ yX1_applyCommand cX1_applyCommand 3 (some .int) ([((0), (5), (6), (13)), ((0), (5), (6), (1))])) (rm_X1_applyCommand k s) [.ref x0, .ref x1] h n (pX (rMap (fun v => some (.int v)) r) h' (n + k)) := by
  rw [f_X1_applyCommand] at hf
  refine Ct.ofH (hs := ([((0), (5), (6), (13)), ((0), (5), (6), (1))])) rfl (Nat.le_of_ble_eq_true rfl) fun X C hnm => ?_
  have C : Cx Ev X RX1 cX1_applyCommand 3 (some .int) (tableOf ([((0), (5), (6), (13)), ((0), (5), (6), (1))])) := C
  show Wa Ev X (rm_X1_applyCommand k s) 3 h n 0 0 (rb_MQ Ev X (rm_X1_applyCommand k s) (pX (rMap (fun v => some (.int v)) r) h' (n + k))) 0 [(0, .ref x0), (1, .ref x1)] []
  have hb : Bd (n + k) k s n 0 0 k s := ⟨rfl, Nat.le_of_eq (Nat.zero_add _), Nat.le_of_eq (Nat.zero_add _)⟩
  refine rb_aload_n C dX1_applyCommand_0 rfl 0 rfl ?_
  refine rb_aload_n C dX1_applyCommand_1 rfl 1 rfl ?_
  obtain ⟨u_1, e_2, hf⟩ := rb_bd hf
  obtain ⟨⟨r_4, h_5, k_6, s_7⟩, e_8, hf⟩ := rb_bd hf
  obtain ⟨a_11, b_12, hf, ea_9, eb_10⟩ := ad_at hf
  rcases r_4 with v_13 | ⟨E_14, q_15⟩
  · dsimp only at hf
    refine rb_callV (As := [.ref x1]) (rest := []) C mi_X5_apply sv_X1_156 (hp_k_isC C.pf e_2 ck_X5) (ct_X5_apply Ev h n x0 x1 (.inl v_13) _ _ _ e_8) rfl rfl (Nat.le_of_ble_eq_true rfl) ⟨Nat.le_of_ble_eq_true rfl, Nat.le_of_ble_eq_true rfl, Bd.c1 hb ea_9, Bd.s1 hb eb_10⟩ dX1_applyCommand_2 rb_xX (rb_kX (r := some (.int v_13)) (rb_w (kc := (0 + k_6)) (ks := (0 + s_7)) rfl rfl ?_))
    have hb := Bd.ade hb ea_9 eb_10
    cases hf
    exact rb_iret C rfl rfl hb.e.2.1 hb.e.2.2 dX1_applyCommand_5 ⟨rfl, rfl, hb.e.1⟩
  · dsimp only at hf
    by_cases c_16 : E_14 = "RainbowOperators$Denial"
    · have hf := (if_pos c_16).symm.trans hf
      subst c_16
      refine rb_callV (As := [.ref x1]) (rest := []) C mi_X5_apply sv_X1_156 (hp_k_isC C.pf e_2 ck_X5) (ct_X5_apply Ev h n x0 x1 (.inr ("RainbowOperators$Denial", q_15)) _ _ _ e_8) rfl rfl (Nat.le_of_ble_eq_true rfl) ⟨Nat.le_of_ble_eq_true rfl, Nat.le_of_ble_eq_true rfl, Bd.c1 hb ea_9, Bd.s1 hb eb_10⟩ dX1_applyCommand_2 (rb_xY (E := "RainbowOperators$Denial") (rb_wX (kc := (0 + k_6)) (ks := (0 + s_7)) rfl rfl ?_)) rb_kY
      have hb := Bd.ade hb ea_9 eb_10
      cases hf
      refine rb_outP C ?_ hb.e.2.1 hb.e.2.2 ⟨rfl, rfl, hb.e.1⟩
      intro z hz
      simp only [tableOf, List.map_cons, List.map_nil, List.mem_cons, List.not_mem_nil, or_false] at hz
      rcases hz with hz | hz
      · subst hz; exact Or.inr ⟨by decide, "java/lang/IndexOutOfBoundsException", q1029, (nc_mem "RainbowOperators$Denial" "java/lang/IndexOutOfBoundsException")⟩
      · subst hz; exact Or.inr ⟨by decide, "java/lang/IllegalArgumentException", q836, (nc_mem "RainbowOperators$Denial" "java/lang/IllegalArgumentException")⟩
    have hf := (if_neg c_16).symm.trans hf
    by_cases c_17 : E_14 = "java/lang/IllegalArgumentException"
    · have hf := (if_pos c_17).symm.trans hf
      subst c_17
      refine rb_callV (As := [.ref x1]) (rest := []) C mi_X5_apply sv_X1_156 (hp_k_isC C.pf e_2 ck_X5) (ct_X5_apply Ev h n x0 x1 (.inr ("java/lang/IllegalArgumentException", q_15)) _ _ _ e_8) rfl rfl (Nat.le_of_ble_eq_true rfl) ⟨Nat.le_of_ble_eq_true rfl, Nat.le_of_ble_eq_true rfl, Bd.c1 hb ea_9, Bd.s1 hb eb_10⟩ dX1_applyCommand_2 (rb_xY (E := "java/lang/IllegalArgumentException") (rb_wX (kc := (0 + k_6)) (ks := (0 + s_7)) rfl rfl ?_)) rb_kY
      have hb := Bd.ade hb ea_9 eb_10
      refine rb_catch C (pre := [⟨0, 5, 6, 13⟩]) (x := ⟨0, 5, 6, 1⟩) (suf := []) rfl ?_ rfl (by decide) q836 q592 ?_
      · intro z hz
        simp only [List.mem_cons, List.not_mem_nil, or_false] at hz
        subst hz; exact Or.inr ⟨by decide, "java/lang/IndexOutOfBoundsException", q1029, (nc_mem "java/lang/IllegalArgumentException" "java/lang/IndexOutOfBoundsException")⟩
      refine rb_astore_n (lv' := [(2, .ref q_15), (0, .ref x0), (1, .ref x1)]) C dX1_applyCommand_6 rfl (by decide) rfl ?_
      obtain ⟨a_20, b_21, hf, ea_18, eb_19⟩ := ad_at hf
      refine rb_hnew C ck_X6 q261 q851 q94 [.null, .null, .null, .null, .null, .int 0, .int 0, .int 0] rfl (Bd.c1 hb ea_18) (Bd.s1 hb eb_19) dX1_applyCommand_7 ?_
      have hb := Bd.ade hb ea_18 eb_19
      obtain ⟨h_22, e_h_22⟩ : ∃ z, z = (va_up h_5 (n + k_6) (some (.inr (4, [.null, .null, .null, .null, .null, .int 0, .int 0, .int 0])))) := ⟨_, rfl⟩
      rw [← e_h_22]
      have hf := rb_let hf e_h_22
      refine rb_dup C dX1_applyCommand_10 rfl ?_
      refine rb_iconst (v := 5) C dX1_applyCommand_11 rfl ?_
      refine rb_iconst (v := 0) C dX1_applyCommand_12 rfl ?_
      obtain ⟨⟨r_24, h_25, k_26, s_27⟩, e_28, hf⟩ := rb_bd hf
      obtain ⟨a_31, b_32, hf, ea_29, eb_30⟩ := ad_at hf
      refine rb_callI (As := [.int 5, .int 0]) (rest := [.ref (n + k_6)]) C mi_X6_init si_X1_36 (ct_X6_init Ev h_22 ((n + k_6) + 1) (n + k_6) 5 0 r_24 _ _ _ e_28) rfl rfl (Nat.le_of_ble_eq_true rfl) ⟨Nat.le_of_ble_eq_true rfl, Nat.le_of_ble_eq_true rfl, Bd.c1 hb ea_29, Bd.s1 hb eb_30⟩ dX1_applyCommand_13 rb_xX (rb_kX (rb_w (kc := (((0 + k_6) + 1) + k_26)) (ks := (((0 + s_7) + 8) + s_27)) rfl rfl ?_))
      have hb := Bd.ade hb ea_29 eb_30
      obtain ⟨u_34, e_33, hf⟩ := rb_bd hf
      refine rb_hthrow (rest := []) C ck_X6 e_33 dX1_applyCommand_16 ?_
      cases hf
      refine rb_outP C ?_ hb.e.2.1 hb.e.2.2 ⟨rfl, rfl, hb.e.1⟩
      intro z hz
      simp only [tableOf, List.map_cons, List.map_nil, List.mem_cons, List.not_mem_nil, or_false] at hz
      rcases hz with hz | hz
      · subst hz; exact Or.inl rfl
      · subst hz; exact Or.inl rfl
    have hf := (if_neg c_17).symm.trans hf
    by_cases c_35 : E_14 = "java/lang/IndexOutOfBoundsException"
    · have hf := (if_pos c_35).symm.trans hf
      subst c_35
      refine rb_callV (As := [.ref x1]) (rest := []) C mi_X5_apply sv_X1_156 (hp_k_isC C.pf e_2 ck_X5) (ct_X5_apply Ev h n x0 x1 (.inr ("java/lang/IndexOutOfBoundsException", q_15)) _ _ _ e_8) rfl rfl (Nat.le_of_ble_eq_true rfl) ⟨Nat.le_of_ble_eq_true rfl, Nat.le_of_ble_eq_true rfl, Bd.c1 hb ea_9, Bd.s1 hb eb_10⟩ dX1_applyCommand_2 (rb_xY (E := "java/lang/IndexOutOfBoundsException") (rb_wX (kc := (0 + k_6)) (ks := (0 + s_7)) rfl rfl ?_)) rb_kY
      have hb := Bd.ade hb ea_9 eb_10
      refine rb_catch C (pre := []) (x := ⟨0, 5, 6, 13⟩) (suf := [⟨0, 5, 6, 1⟩]) rfl ?_ rfl (by decide) q1029 q1031 ?_
      · intro z hz
        exact absurd hz List.not_mem_nil
      refine rb_astore_n (lv' := [(2, .ref q_15), (0, .ref x0), (1, .ref x1)]) C dX1_applyCommand_6 rfl (by decide) rfl ?_
      obtain ⟨a_38, b_39, hf, ea_36, eb_37⟩ := ad_at hf
      refine rb_hnew C ck_X6 q261 q851 q94 [.null, .null, .null, .null, .null, .int 0, .int 0, .int 0] rfl (Bd.c1 hb ea_36) (Bd.s1 hb eb_37) dX1_applyCommand_7 ?_
      have hb := Bd.ade hb ea_36 eb_37
      obtain ⟨h_40, e_h_40⟩ : ∃ z, z = (va_up h_5 (n + k_6) (some (.inr (4, [.null, .null, .null, .null, .null, .int 0, .int 0, .int 0])))) := ⟨_, rfl⟩
      rw [← e_h_40]
      have hf := rb_let hf e_h_40
      refine rb_dup C dX1_applyCommand_10 rfl ?_
      refine rb_iconst (v := 5) C dX1_applyCommand_11 rfl ?_
      refine rb_iconst (v := 0) C dX1_applyCommand_12 rfl ?_
      obtain ⟨⟨r_42, h_43, k_44, s_45⟩, e_46, hf⟩ := rb_bd hf
      obtain ⟨a_49, b_50, hf, ea_47, eb_48⟩ := ad_at hf
      refine rb_callI (As := [.int 5, .int 0]) (rest := [.ref (n + k_6)]) C mi_X6_init si_X1_36 (ct_X6_init Ev h_40 ((n + k_6) + 1) (n + k_6) 5 0 r_42 _ _ _ e_46) rfl rfl (Nat.le_of_ble_eq_true rfl) ⟨Nat.le_of_ble_eq_true rfl, Nat.le_of_ble_eq_true rfl, Bd.c1 hb ea_47, Bd.s1 hb eb_48⟩ dX1_applyCommand_13 rb_xX (rb_kX (rb_w (kc := (((0 + k_6) + 1) + k_44)) (ks := (((0 + s_7) + 8) + s_45)) rfl rfl ?_))
      have hb := Bd.ade hb ea_47 eb_48
      obtain ⟨u_52, e_51, hf⟩ := rb_bd hf
      refine rb_hthrow (rest := []) C ck_X6 e_51 dX1_applyCommand_16 ?_
      cases hf
      refine rb_outP C ?_ hb.e.2.1 hb.e.2.2 ⟨rfl, rfl, hb.e.1⟩
      intro z hz
      simp only [tableOf, List.map_cons, List.map_nil, List.mem_cons, List.not_mem_nil, or_false] at hz
      rcases hz with hz | hz
      · subst hz; exact Or.inl rfl
      · subst hz; exact Or.inl rfl
    have hf := (if_neg c_35).symm.trans hf
    cases hf
def f_X1_applyAll_l9_13 (Ev : rb_E) (x1 : Nat) (r_4 : Nat) : Nat → Int32 → AH → Nat → Option ((Unit ⊕ (String × Nat)) × AH × Nat × Nat)
  | 0, _, _, _ => none
  | k_l9_13 + 1, y2_l9_13, h_l9_13, n_l9_13 => ((hp_k Ev h_l9_13 r_4 29).bind fun u_14 => ((f_J30_hasNext Ev h_l9_13 r_4).bind fun v_17 => (if v_17 = 0 then (some (.inl (), h_l9_13, 0, 0)) else ((hp_k Ev h_l9_13 r_4 29).bind fun u_20 => ((f_J30_next Ev h_l9_13 n_l9_13 r_4).bind fun (r_23, h_24, k_25, s_26) => (ad k_25 s_26 ((hp_ca Ev h_24 r_23 [3]).bind fun u_32 => ((f_X1_applyCommand Ev h_24 (n_l9_13 + k_25) r_23 x1).bind fun (r_35, h_36, k_37, s_38) => (ad k_37 s_38 (match r_35 with | .inl v_44 => ((f_X1_applyAll_l9_13 Ev x1 r_4 k_l9_13) (y2_l9_13 + 1) h_36 ((n_l9_13 + k_25) + k_37)) | .inr (E_45, q_46) => (if E_45 = "RainbowOperators$Denial" then (ad 1 8 (rb_lt (va_up h_36 ((n_l9_13 + k_25) + k_37) (some (.inr (4, [.null, .null, .null, .null, .null, .int 0, .int 0, .int 0])))) fun h_52 => ((f_X6_init_2 Ev h_52 (((n_l9_13 + k_25) + k_37) + 1) ((n_l9_13 + k_25) + k_37) 4 y2_l9_13 (some q_46)).bind fun (r_54, h_55, k_56, s_57) => (ad k_56 s_57 ((hp_k Ev h_55 ((n_l9_13 + k_25) + k_37) 4).bind fun u_64 => (some (.inr ("RainbowOperators$Denial", ((n_l9_13 + k_25) + k_37)), h_55, 0, 0))))))) else none)))))))))))
def f_X1_applyAll (Ev : rb_E) (h : AH) (n : Nat) (x0 : Nat) (x1 : Nat) : Option ((Unit ⊕ (String × Nat)) × AH × Nat × Nat) := ((hp_k Ev h x0 27).bind fun u_1 => ((f_J27_iterator Ev h n x0).bind fun (r_4, h_5, k_6, s_7) => (ad k_6 s_7 (f_X1_applyAll_l9_13 Ev x1 r_4 4096 0 h_5 (n + k_6)))))
abbrev rm_X1_applyAll (k s : Nat) : Room := { frames := 77, cells := k, slots := s, locals := 2913 }
set_option maxHeartbeats 4000000 in
theorem ct_X1_applyAll (Ev : rb_E) (h : AH) (n : Nat) (x0 : Nat) (x1 : Nat) (r : Unit ⊕ (String × Nat)) (h' : AH) (k s : Nat) (hf : f_X1_applyAll Ev h n x0 x1 = some (r, h', k, s)) : Ct Ev yX1_applyAll (wsW_ yX1_applyAll cX1_applyAll 6 none ([((29), (37), (40), (34))])) (rm_X1_applyAll k s) [.ref x0, .ref x1] h n (pX (rMap (fun _ => none) r) h' (n + k)) := by
  rw [f_X1_applyAll] at hf
  refine Ct.ofH (hs := ([((29), (37), (40), (34))])) rfl (Nat.le_of_ble_eq_true rfl) fun X C hnm => ?_
  have C : Cx Ev X RX1 cX1_applyAll 6 none (tableOf ([((29), (37), (40), (34))])) := C
  show Wa Ev X (rm_X1_applyAll k s) 6 h n 0 0 (rb_MQ Ev X (rm_X1_applyAll k s) (pX (rMap (fun _ => none) r) h' (n + k))) 0 [(0, .ref x0), (1, .ref x1)] []
  have hb : Bd (n + k) k s n 0 0 k s := ⟨rfl, Nat.le_of_eq (Nat.zero_add _), Nat.le_of_eq (Nat.zero_add _)⟩
  refine rb_iconst (v := 0) C dX1_applyAll_0 rfl ?_
  refine rb_istore_n (lv' := [(2, .int 0), (0, .ref x0), (1, .ref x1)]) C dX1_applyAll_1 rfl (by decide) rfl ?_
  refine rb_aload_n C dX1_applyAll_2 rfl 1 rfl ?_
  obtain ⟨u_1, e_2, hf⟩ := rb_bd hf
  obtain ⟨⟨r_4, h_5, k_6, s_7⟩, e_8, hf⟩ := rb_bd hf
  obtain ⟨a_11, b_12, hf, ea_9, eb_10⟩ := ad_at hf
  refine rb_callF (As := []) (rest := []) C mi_J27_iterator sf_X1_355_J27 ck_J27 (hp_k_isC C.pf e_2 ck_J27) (ct_J27_iterator Ev h n x0 r_4 _ _ _ e_8) rfl rfl (Nat.le_of_ble_eq_true rfl) ⟨Nat.le_of_ble_eq_true rfl, Nat.le_of_ble_eq_true rfl, Bd.c1 hb ea_9, Bd.s1 hb eb_10⟩ dX1_applyAll_3 rb_xX (rb_kX (rb_w (kc := (0 + k_6)) (ks := (0 + s_7)) rfl rfl ?_))
  have hb := Bd.ade hb ea_9 eb_10
  refine rb_astore_n (lv' := [(3, .ref r_4), (2, .int 0), (0, .ref x0), (1, .ref x1)]) C dX1_applyAll_8 rfl (by decide) rfl ?_
  have L_l9_13 : ∀ (k_l9_13 : Nat) (y2_l9_13 : Int32) (h_l9_13 : AH) (n_l9_13 kc_l9_13 ks_l9_13 a_ b_ : Nat), f_X1_applyAll_l9_13 Ev x1 r_4 k_l9_13 y2_l9_13 h_l9_13 n_l9_13 = some (r, h', a_, b_) → Bd (n + k) k s n_l9_13 kc_l9_13 ks_l9_13 a_ b_ → Wa Ev X (rm_X1_applyAll k s) 6 h_l9_13 n_l9_13 kc_l9_13 ks_l9_13 (rb_MQ Ev X (rm_X1_applyAll k s) (pX (rMap (fun _ => none) r) h' (n + k))) 9 [(0, .ref x0), (1, .ref x1), (2, .int y2_l9_13), (3, .ref r_4)] [] := by
    intro k_l9_13
    induction k_l9_13 with
    | zero => intro y2_l9_13 h_l9_13 n_l9_13 kc_l9_13 ks_l9_13 a_ b_ hf hb; cases hf
    | succ k_l9_13 ih_l9_13 =>
      intro y2_l9_13 h_l9_13 n_l9_13 kc_l9_13 ks_l9_13 a_ b_ hf hb
      rw [f_X1_applyAll_l9_13] at hf
      refine rb_aload_n C dX1_applyAll_9 rfl 3 rfl ?_
      obtain ⟨u_14, e_15, hf⟩ := rb_bd hf
      obtain ⟨v_17, e_18, hf⟩ := rb_bd hf
      refine rb_callF (As := []) (rest := []) C mi_J30_hasNext sf_X1_361_J30 ck_J30 (hp_k_isC C.pf e_15 ck_J30) (ct_J30_hasNext Ev h_l9_13 n_l9_13 r_4 _ e_18) rfl rfl (Nat.le_of_ble_eq_true rfl) ⟨Nat.le_of_ble_eq_true rfl, Nat.le_of_ble_eq_true rfl, hb.c0, hb.s0⟩ dX1_applyAll_10 rb_xXi (rb_kXi fun hn_16 => (rb_w (kc := kc_l9_13) (ks := ks_l9_13) rfl rfl ?_))
      refine rb_if_eq (tgt := 60) C dX1_applyAll_15 (by decide) (fun c_19 => ?_) (fun c_19 => ?_)
      · have hf := (if_pos c_19).symm.trans hf
        cases hf
        exact rb_vret C rfl hb.e.2.1 hb.e.2.2 dX1_applyAll_60 ⟨rfl, rfl, hb.e.1⟩
      · have hf := (if_neg c_19).symm.trans hf
        refine rb_aload_n C dX1_applyAll_18 rfl 3 rfl ?_
        obtain ⟨u_20, e_21, hf⟩ := rb_bd hf
        obtain ⟨⟨r_23, h_24, k_25, s_26⟩, e_27, hf⟩ := rb_bd hf
        obtain ⟨a_30, b_31, hf, ea_28, eb_29⟩ := ad_at hf
        refine rb_callF (As := []) (rest := []) C mi_J30_next sf_X1_367_J30 ck_J30 (hp_k_isC C.pf e_21 ck_J30) (ct_J30_next Ev h_l9_13 n_l9_13 r_4 r_23 _ _ _ e_27) rfl rfl (Nat.le_of_ble_eq_true rfl) ⟨Nat.le_of_ble_eq_true rfl, Nat.le_of_ble_eq_true rfl, Bd.c1 hb ea_28, Bd.s1 hb eb_29⟩ dX1_applyAll_19 rb_xX (rb_kX (rb_w (kc := (kc_l9_13 + k_25)) (ks := (ks_l9_13 + s_26)) rfl rfl ?_))
        have hb := Bd.ade hb ea_28 eb_29
        obtain ⟨u_32, e_33, hf⟩ := rb_bd hf
        refine rb_hca C q525 okp_RainbowOperators_Change e_33 dX1_applyAll_24 ?_
        refine rb_astore (lv' := [(4, .ref r_23), (0, .ref x0), (1, .ref x1), (2, .int y2_l9_13), (3, .ref r_4)]) C dX1_applyAll_27 (by decide) rfl ?_
        refine rb_aload C dX1_applyAll_29 0 rfl ?_
        refine rb_aload_n C dX1_applyAll_31 rfl 2 rfl ?_
        obtain ⟨⟨r_35, h_36, k_37, s_38⟩, e_39, hf⟩ := rb_bd hf
        obtain ⟨a_42, b_43, hf, ea_40, eb_41⟩ := ad_at hf
        rcases r_35 with v_44 | ⟨E_45, q_46⟩
        · dsimp only at hf
          refine rb_callSX (As := [.ref r_23, .ref x1]) (rest := []) C mi_X1_applyCommand ss_X1_370 (ct_X1_applyCommand Ev h_24 (n_l9_13 + k_25) r_23 x1 (.inl v_44) _ _ _ e_39) rfl rfl (Nat.le_of_ble_eq_true rfl) ⟨Nat.le_of_ble_eq_true rfl, Nat.le_of_ble_eq_true rfl, Bd.c1 hb ea_40, Bd.s1 hb eb_41⟩ dX1_applyAll_32 rb_xX (rb_kX (r := some (.int v_44)) (rb_w (kc := ((kc_l9_13 + k_25) + k_37)) (ks := ((ks_l9_13 + s_26) + s_38)) rfl rfl ?_))
          have hb := Bd.ade hb ea_40 eb_41
          refine rb_istore (lv' := [(5, .int v_44), (4, .ref r_23), (0, .ref x0), (1, .ref x1), (2, .int y2_l9_13), (3, .ref r_4)]) C dX1_applyAll_35 (by decide) rfl ?_
          refine rb_goto (tgt := 54) C dX1_applyAll_37 (by decide) ?_
          refine rb_iinc (v := (y2_l9_13 + 1)) (lv' := [(2, .int (y2_l9_13 + 1)), (5, .int v_44), (4, .ref r_23), (0, .ref x0), (1, .ref x1), (3, .ref r_4)]) C dX1_applyAll_54 (k := 4) rfl rfl (by decide) rfl ?_
          refine rb_goto (tgt := 9) C dX1_applyAll_57 (by decide) ?_
          refine rb_sub [3, 4, 0, 5] rfl ?_
          exact ih_l9_13 (y2_l9_13 + 1) h_36 ((n_l9_13 + k_25) + k_37) _ _ _ _ hf hb
        · dsimp only at hf
          by_cases c_47 : E_45 = "RainbowOperators$Denial"
          · have hf := (if_pos c_47).symm.trans hf
            subst c_47
            refine rb_callSX (As := [.ref r_23, .ref x1]) (rest := []) C mi_X1_applyCommand ss_X1_370 (ct_X1_applyCommand Ev h_24 (n_l9_13 + k_25) r_23 x1 (.inr ("RainbowOperators$Denial", q_46)) _ _ _ e_39) rfl rfl (Nat.le_of_ble_eq_true rfl) ⟨Nat.le_of_ble_eq_true rfl, Nat.le_of_ble_eq_true rfl, Bd.c1 hb ea_40, Bd.s1 hb eb_41⟩ dX1_applyAll_32 (rb_xY (E := "RainbowOperators$Denial") (rb_wX (kc := ((kc_l9_13 + k_25) + k_37)) (ks := ((ks_l9_13 + s_26) + s_38)) rfl rfl ?_)) rb_kY
            have hb := Bd.ade hb ea_40 eb_41
            refine rb_catch C (pre := []) (x := ⟨29, 37, 40, 34⟩) (suf := []) rfl ?_ rfl (by decide) q261 q852 ?_
            · intro z hz
              exact absurd hz List.not_mem_nil
            refine rb_astore (lv' := [(5, .ref q_46), (4, .ref r_23), (0, .ref x0), (1, .ref x1), (2, .int y2_l9_13), (3, .ref r_4)]) C dX1_applyAll_40 (by decide) rfl ?_
            obtain ⟨a_50, b_51, hf, ea_48, eb_49⟩ := ad_at hf
            refine rb_hnew C ck_X6 q261 q851 q94 [.null, .null, .null, .null, .null, .int 0, .int 0, .int 0] rfl (Bd.c1 hb ea_48) (Bd.s1 hb eb_49) dX1_applyAll_42 ?_
            have hb := Bd.ade hb ea_48 eb_49
            obtain ⟨h_52, e_h_52⟩ : ∃ z, z = (va_up h_36 ((n_l9_13 + k_25) + k_37) (some (.inr (4, [.null, .null, .null, .null, .null, .int 0, .int 0, .int 0])))) := ⟨_, rfl⟩
            rw [← e_h_52]
            have hf := rb_let hf e_h_52
            refine rb_dup C dX1_applyAll_45 rfl ?_
            refine rb_iconst (v := 4) C dX1_applyAll_46 rfl ?_
            refine rb_iload_n C dX1_applyAll_47 rfl 4 rfl ?_
            refine rb_aload C dX1_applyAll_48 0 rfl ?_
            obtain ⟨⟨r_54, h_55, k_56, s_57⟩, e_58, hf⟩ := rb_bd hf
            obtain ⟨a_61, b_62, hf, ea_59, eb_60⟩ := ad_at hf
            refine rb_callI (As := [.int 4, .int y2_l9_13, .ref q_46]) (rest := [.ref ((n_l9_13 + k_25) + k_37)]) C mi_X6_init_2 si_X1_374 (ct_X6_init_2 Ev h_52 (((n_l9_13 + k_25) + k_37) + 1) ((n_l9_13 + k_25) + k_37) 4 y2_l9_13 (some q_46) r_54 _ _ _ e_58) rfl rfl (Nat.le_of_ble_eq_true rfl) ⟨Nat.le_of_ble_eq_true rfl, Nat.le_of_ble_eq_true rfl, Bd.c1 hb ea_59, Bd.s1 hb eb_60⟩ dX1_applyAll_50 rb_xX (rb_kX (rb_w (kc := ((((kc_l9_13 + k_25) + k_37) + 1) + k_56)) (ks := ((((ks_l9_13 + s_26) + s_38) + 8) + s_57)) rfl rfl ?_))
            have hb := Bd.ade hb ea_59 eb_60
            obtain ⟨u_64, e_63, hf⟩ := rb_bd hf
            refine rb_hthrow (rest := []) C ck_X6 e_63 dX1_applyAll_53 ?_
            cases hf
            refine rb_outP C ?_ hb.e.2.1 hb.e.2.2 ⟨rfl, rfl, hb.e.1⟩
            intro z hz
            simp only [tableOf, List.map_cons, List.map_nil, List.mem_cons, List.not_mem_nil, or_false] at hz
            · subst hz; exact Or.inl rfl
          have hf := (if_neg c_47).symm.trans hf
          cases hf
  refine rb_sub [2, 3, 1, 0] rfl ?_
  exact L_l9_13 4096 0 h_5 (n + k_6) _ _ _ _ hf hb
def f_J27_size (Ev : rb_E) (h : AH) (o : Nat) : Option Int32 := ((hp_i Ev h o 27 2).bind fun v_1 => (some v_1))
abbrev rm_J27_size : Room := { frames := 0, cells := 0, slots := 0, locals := 0 }
set_option maxHeartbeats 4000000 in
theorem ct_J27_size (Ev : rb_E) (h : AH) (n : Nat) (o : Nat) (r : Int32) (hf : f_J27_size Ev h o = some r) : Ct Ev yJ27_size (ws_ yJ27_size cJ27_size 1 (some .int)) (rm_J27_size) [.ref o] h n (pXi .int r h n) := by
  rw [f_J27_size] at hf
  refine Ct.of rfl (Nat.le_of_ble_eq_true rfl) fun X C hnm => ?_
  have C : Cx Ev X RJ27 cJ27_size 1 (some .int) [] := C
  show Wa Ev X (rm_J27_size) 1 h n 0 0 (rb_MQ Ev X (rm_J27_size) (pXi .int r h n)) 0 [(0, .ref o)] []
  refine rb_aload_n C dJ27_size_0 rfl 0 rfl ?_
  obtain ⟨v_1, e_2, hf⟩ := rb_bd hf
  refine rb_hI C fl_J27_48_J27 e_2 dJ27_size_1 ?_
  cases hf
  exact rb_iret C rfl rfl (Nat.zero_le _) (Nat.zero_le _) dJ27_size_4 ⟨rfl, rfl, rfl, rfl⟩
def f_X1_execute (Ev : rb_E) (h : AH) (n : Nat) (o : Nat) : Option ((Int32 ⊕ (String × Nat)) × AH × Nat × Nat) := ((hp_k Ev h o 0).bind fun u_1 => ((f_X1_parse Ev h n o).bind fun (r_4, h_5, k_6, s_7) => (ad k_6 s_7 ((hp_k Ev h_5 r_4 28).bind fun u_13 => ((f_J28_isPresent Ev h_5 r_4).bind fun v_16 => ((f_X1_requireArgument Ev h_5 (n + k_6) v_16).bind fun (r_19, h_20, k_21, s_22) => (ad k_21 s_22 (match r_19 with | .inl v_28 => (ad 1 5 (rb_lt (va_up h_20 ((n + k_6) + k_21) (some (.inr (1, [.null, .null, .null, .null, .null])))) fun h_35 => ((hp_p Ev h_35 o 0 0).bind fun v_36 => ((f_X2_init_2 Ev h_35 (((n + k_6) + k_21) + 1) ((n + k_6) + k_21) v_36).bind fun (r_39, h_40, k_41, s_42) => (ad k_41 s_42 ((hp_k Ev h_40 r_4 28).bind fun u_48 => ((f_J28_get Ev h_40 r_4).bind fun v_51 => ((hp_ca Ev h_40 v_51 [27]).bind fun u_53 => ((f_X1_applyAll Ev h_40 ((((n + k_6) + k_21) + 1) + k_41) v_51 ((n + k_6) + k_21)).bind fun (r_56, h_57, k_58, s_59) => (ad k_58 s_59 (match r_56 with | .inl v_65 => ((hp_k Ev h_57 r_4 28).bind fun u_68 => ((f_J28_get Ev h_57 r_4).bind fun v_71 => ((hp_ca Ev h_57 v_71 [27]).bind fun u_73 => ((hp_k Ev h_57 v_71 27).bind fun u_75 => ((f_J27_size Ev h_57 v_71).bind fun v_78 => ((hp_k Ev h_57 o 0).bind fun u_80 => ((f_X1_replaceBy Ev h_57 (((((n + k_6) + k_21) + 1) + k_41) + k_58) o ((n + k_6) + k_21) v_78).bind fun (r_83, h_84, k_85, s_86) => (ad k_85 s_86 (some (.inl r_83, h_84, 0, 0)))))))))) | .inr (E_66, q_67) => (if E_66 = "RainbowOperators$Denial" then ((hp_k Ev h_57 o 0).bind fun u_93 => ((f_X1_deny Ev h_57 (((((n + k_6) + k_21) + 1) + k_41) + k_58) o q_67).bind fun (r_96, h_97, k_98, s_99) => (ad k_98 s_99 ((hp_k Ev h_97 r_96 25).bind fun u_106 => (some (.inr ("java/lang/UnsupportedOperationException", r_96), h_97, 0, 0)))))) else none)))))))))))) | .inr (E_29, q_30) => (if E_29 = "java/lang/IllegalArgumentException" then (some (.inr ("java/lang/IllegalArgumentException", q_30), h_20, 0, 0)) else none)))))))))
abbrev rm_X1_execute (k s : Nat) : Room := { frames := 78, cells := k, slots := s, locals := 2938 }
set_option maxHeartbeats 4000000 in
theorem ct_X1_execute (Ev : rb_E) (h : AH) (n : Nat) (o : Nat) (r : Int32 ⊕ (String × Nat)) (h' : AH) (k s : Nat) (hf : f_X1_execute Ev h n o = some (r, h', k, s)) : Ct Ev yX1_execute (wsW_ yX1_execute cX1_execute 4 (some .int) ([((24), (35), (38), (34))])) (rm_X1_execute k s) [.ref o] h n (pX (rMap (fun v => some (.int v)) r) h' (n + k)) := by
  rw [f_X1_execute] at hf
  refine Ct.ofH (hs := ([((24), (35), (38), (34))])) rfl (Nat.le_of_ble_eq_true rfl) fun X C hnm => ?_
  have C : Cx Ev X RX1 cX1_execute 4 (some .int) (tableOf ([((24), (35), (38), (34))])) := C
  show Wa Ev X (rm_X1_execute k s) 4 h n 0 0 (rb_MQ Ev X (rm_X1_execute k s) (pX (rMap (fun v => some (.int v)) r) h' (n + k))) 0 [(0, .ref o)] []
  have hb : Bd (n + k) k s n 0 0 k s := ⟨rfl, Nat.le_of_eq (Nat.zero_add _), Nat.le_of_eq (Nat.zero_add _)⟩
  refine rb_aload_n C dX1_execute_0 rfl 0 rfl ?_
  obtain ⟨u_1, e_2, hf⟩ := rb_bd hf
  obtain ⟨⟨r_4, h_5, k_6, s_7⟩, e_8, hf⟩ := rb_bd hf
  obtain ⟨a_11, b_12, hf, ea_9, eb_10⟩ := ad_at hf
  refine rb_callVX (As := []) (rest := []) C mi_X1_parse sv_X1_377 (hp_k_isC C.pf e_2 ck_X1) (ct_X1_parse Ev h n o r_4 _ _ _ e_8) rfl rfl (Nat.le_of_ble_eq_true rfl) ⟨Nat.le_of_ble_eq_true rfl, Nat.le_of_ble_eq_true rfl, Bd.c1 hb ea_9, Bd.s1 hb eb_10⟩ dX1_execute_1 rb_xX (rb_kX (rb_w (kc := (0 + k_6)) (ks := (0 + s_7)) rfl rfl ?_))
  have hb := Bd.ade hb ea_9 eb_10
  refine rb_astore_n (lv' := [(1, .ref r_4), (0, .ref o)]) C dX1_execute_4 rfl (by decide) rfl ?_
  refine rb_aload_n C dX1_execute_5 rfl 0 rfl ?_
  obtain ⟨u_13, e_14, hf⟩ := rb_bd hf
  obtain ⟨v_16, e_17, hf⟩ := rb_bd hf
  refine rb_callV (As := []) (rest := []) C mi_J28_isPresent sv_X1_380 (hp_k_isC C.pf e_14 ck_J28) (ct_J28_isPresent Ev h_5 (n + k_6) r_4 _ e_17) rfl rfl (Nat.le_of_ble_eq_true rfl) ⟨Nat.le_of_ble_eq_true rfl, Nat.le_of_ble_eq_true rfl, hb.c0, hb.s0⟩ dX1_execute_6 rb_xXi (rb_kXi fun hn_15 => (rb_w (kc := (0 + k_6)) (ks := (0 + s_7)) rfl rfl ?_))
  obtain ⟨⟨r_19, h_20, k_21, s_22⟩, e_23, hf⟩ := rb_bd hf
  obtain ⟨a_26, b_27, hf, ea_24, eb_25⟩ := ad_at hf
  rcases r_19 with v_28 | ⟨E_29, q_30⟩
  · dsimp only at hf
    refine rb_callS (As := [.int v_16]) (rest := []) C mi_X1_requireArgument ss_X1_28 (ct_X1_requireArgument Ev h_5 (n + k_6) v_16 (.inl v_28) _ _ _ e_23) rfl rfl (Nat.le_of_ble_eq_true rfl) ⟨Nat.le_of_ble_eq_true rfl, Nat.le_of_ble_eq_true rfl, Bd.c1 hb ea_24, Bd.s1 hb eb_25⟩ dX1_execute_9 rb_xX (rb_kX (r := none) (rb_w (kc := ((0 + k_6) + k_21)) (ks := ((0 + s_7) + s_22)) rfl rfl ?_))
    have hb := Bd.ade hb ea_24 eb_25
    obtain ⟨a_33, b_34, hf, ea_31, eb_32⟩ := ad_at hf
    refine rb_hnew C ck_X2 q125 q126 q70 [.null, .null, .null, .null, .null] rfl (Bd.c1 hb ea_31) (Bd.s1 hb eb_32) dX1_execute_12 ?_
    have hb := Bd.ade hb ea_31 eb_32
    obtain ⟨h_35, e_h_35⟩ : ∃ z, z = (va_up h_20 ((n + k_6) + k_21) (some (.inr (1, [.null, .null, .null, .null, .null])))) := ⟨_, rfl⟩
    rw [← e_h_35]
    have hf := rb_let hf e_h_35
    refine rb_dup C dX1_execute_15 rfl ?_
    refine rb_aload_n C dX1_execute_16 rfl 1 rfl ?_
    obtain ⟨v_36, e_37, hf⟩ := rb_bd hf
    refine rb_hP C fl_X1_104_X1 e_37 dX1_execute_17 ?_
    obtain ⟨⟨r_39, h_40, k_41, s_42⟩, e_43, hf⟩ := rb_bd hf
    obtain ⟨a_46, b_47, hf, ea_44, eb_45⟩ := ad_at hf
    refine rb_callI (As := [.ref v_36]) (rest := [.ref ((n + k_6) + k_21)]) C mi_X2_init_2 si_X1_148 (ct_X2_init_2 Ev h_35 (((n + k_6) + k_21) + 1) ((n + k_6) + k_21) v_36 r_39 _ _ _ e_43) rfl rfl (Nat.le_of_ble_eq_true rfl) ⟨Nat.le_of_ble_eq_true rfl, Nat.le_of_ble_eq_true rfl, Bd.c1 hb ea_44, Bd.s1 hb eb_45⟩ dX1_execute_20 rb_xX (rb_kX (rb_w (kc := ((((0 + k_6) + k_21) + 1) + k_41)) (ks := ((((0 + s_7) + s_22) + 5) + s_42)) rfl rfl ?_))
    have hb := Bd.ade hb ea_44 eb_45
    refine rb_astore_n (lv' := [(2, .ref ((n + k_6) + k_21)), (1, .ref r_4), (0, .ref o)]) C dX1_execute_23 rfl (by decide) rfl ?_
    refine rb_aload_n C dX1_execute_24 rfl 1 rfl ?_
    obtain ⟨u_48, e_49, hf⟩ := rb_bd hf
    obtain ⟨v_51, e_52, hf⟩ := rb_bd hf
    refine rb_callV (As := []) (rest := []) C mi_J28_get sv_X1_383 (hp_k_isC C.pf e_49 ck_J28) (ct_J28_get Ev h_40 ((((n + k_6) + k_21) + 1) + k_41) r_4 _ e_52) rfl rfl (Nat.le_of_ble_eq_true rfl) ⟨Nat.le_of_ble_eq_true rfl, Nat.le_of_ble_eq_true rfl, hb.c0, hb.s0⟩ dX1_execute_25 rb_xX (rb_kX (rb_w (kc := ((((0 + k_6) + k_21) + 1) + k_41)) (ks := ((((0 + s_7) + s_22) + 5) + s_42)) rfl rfl ?_))
    obtain ⟨u_53, e_54, hf⟩ := rb_bd hf
    refine rb_hca C q2118 okp_java_util_List e_54 dX1_execute_28 ?_
    refine rb_aload_n C dX1_execute_31 rfl 0 rfl ?_
    obtain ⟨⟨r_56, h_57, k_58, s_59⟩, e_60, hf⟩ := rb_bd hf
    obtain ⟨a_63, b_64, hf, ea_61, eb_62⟩ := ad_at hf
    rcases r_56 with v_65 | ⟨E_66, q_67⟩
    · dsimp only at hf
      refine rb_callSX (As := [.ref v_51, .ref ((n + k_6) + k_21)]) (rest := []) C mi_X1_applyAll ss_X1_386 (ct_X1_applyAll Ev h_40 ((((n + k_6) + k_21) + 1) + k_41) v_51 ((n + k_6) + k_21) (.inl v_65) _ _ _ e_60) rfl rfl (Nat.le_of_ble_eq_true rfl) ⟨Nat.le_of_ble_eq_true rfl, Nat.le_of_ble_eq_true rfl, Bd.c1 hb ea_61, Bd.s1 hb eb_62⟩ dX1_execute_32 rb_xX (rb_kX (r := none) (rb_w (kc := (((((0 + k_6) + k_21) + 1) + k_41) + k_58)) (ks := (((((0 + s_7) + s_22) + 5) + s_42) + s_59)) rfl rfl ?_))
      have hb := Bd.ade hb ea_61 eb_62
      refine rb_goto (tgt := 45) C dX1_execute_35 (by decide) ?_
      refine rb_aload_n C dX1_execute_45 rfl 2 rfl ?_
      refine rb_aload_n C dX1_execute_46 rfl 0 rfl ?_
      refine rb_aload_n C dX1_execute_47 rfl 1 rfl ?_
      obtain ⟨u_68, e_69, hf⟩ := rb_bd hf
      obtain ⟨v_71, e_72, hf⟩ := rb_bd hf
      refine rb_callV (As := []) (rest := [.ref ((n + k_6) + k_21), .ref o]) C mi_J28_get sv_X1_383 (hp_k_isC C.pf e_69 ck_J28) (ct_J28_get Ev h_57 (((((n + k_6) + k_21) + 1) + k_41) + k_58) r_4 _ e_72) rfl rfl (Nat.le_of_ble_eq_true rfl) ⟨Nat.le_of_ble_eq_true rfl, Nat.le_of_ble_eq_true rfl, hb.c0, hb.s0⟩ dX1_execute_48 rb_xX (rb_kX (rb_w (kc := (((((0 + k_6) + k_21) + 1) + k_41) + k_58)) (ks := (((((0 + s_7) + s_22) + 5) + s_42) + s_59)) rfl rfl ?_))
      obtain ⟨u_73, e_74, hf⟩ := rb_bd hf
      refine rb_hca C q2118 okp_java_util_List e_74 dX1_execute_51 ?_
      obtain ⟨u_75, e_76, hf⟩ := rb_bd hf
      obtain ⟨v_78, e_79, hf⟩ := rb_bd hf
      refine rb_callF (As := []) (rest := [.ref ((n + k_6) + k_21), .ref o]) C mi_J27_size sf_X1_390_J27 ck_J27 (hp_k_isC C.pf e_76 ck_J27) (ct_J27_size Ev h_57 (((((n + k_6) + k_21) + 1) + k_41) + k_58) v_71 _ e_79) rfl rfl (Nat.le_of_ble_eq_true rfl) ⟨Nat.le_of_ble_eq_true rfl, Nat.le_of_ble_eq_true rfl, hb.c0, hb.s0⟩ dX1_execute_54 rb_xXi (rb_kXi fun hn_77 => (rb_w (kc := (((((0 + k_6) + k_21) + 1) + k_41) + k_58)) (ks := (((((0 + s_7) + s_22) + 5) + s_42) + s_59)) rfl rfl ?_))
      obtain ⟨u_80, e_81, hf⟩ := rb_bd hf
      obtain ⟨⟨r_83, h_84, k_85, s_86⟩, e_87, hf⟩ := rb_bd hf
      obtain ⟨a_90, b_91, hf, ea_88, eb_89⟩ := ad_at hf
      refine rb_callV (As := [.ref ((n + k_6) + k_21), .int v_78]) (rest := []) C mi_X1_replaceBy sv_X1_160 (hp_k_isC C.pf e_81 ck_X1) (ct_X1_replaceBy Ev h_57 (((((n + k_6) + k_21) + 1) + k_41) + k_58) o ((n + k_6) + k_21) v_78 r_83 _ _ _ e_87) rfl rfl (Nat.le_of_ble_eq_true rfl) ⟨Nat.le_of_ble_eq_true rfl, Nat.le_of_ble_eq_true rfl, Bd.c1 hb ea_88, Bd.s1 hb eb_89⟩ dX1_execute_59 rb_xXi (rb_kXi fun hn_82 => (rb_w (kc := ((((((0 + k_6) + k_21) + 1) + k_41) + k_58) + k_85)) (ks := ((((((0 + s_7) + s_22) + 5) + s_42) + s_59) + s_86)) rfl rfl ?_))
      have hb := Bd.ade hb ea_88 eb_89
      cases hf
      exact rb_iret C rfl rfl hb.e.2.1 hb.e.2.2 dX1_execute_62 ⟨rfl, rfl, hb.e.1⟩
    · dsimp only at hf
      by_cases c_92 : E_66 = "RainbowOperators$Denial"
      · have hf := (if_pos c_92).symm.trans hf
        subst c_92
        refine rb_callSX (As := [.ref v_51, .ref ((n + k_6) + k_21)]) (rest := []) C mi_X1_applyAll ss_X1_386 (ct_X1_applyAll Ev h_40 ((((n + k_6) + k_21) + 1) + k_41) v_51 ((n + k_6) + k_21) (.inr ("RainbowOperators$Denial", q_67)) _ _ _ e_60) rfl rfl (Nat.le_of_ble_eq_true rfl) ⟨Nat.le_of_ble_eq_true rfl, Nat.le_of_ble_eq_true rfl, Bd.c1 hb ea_61, Bd.s1 hb eb_62⟩ dX1_execute_32 (rb_xY (E := "RainbowOperators$Denial") (rb_wX (kc := (((((0 + k_6) + k_21) + 1) + k_41) + k_58)) (ks := (((((0 + s_7) + s_22) + 5) + s_42) + s_59)) rfl rfl ?_)) rb_kY
        have hb := Bd.ade hb ea_61 eb_62
        refine rb_catch C (pre := []) (x := ⟨24, 35, 38, 34⟩) (suf := []) rfl ?_ rfl (by decide) q261 q852 ?_
        · intro z hz
          exact absurd hz List.not_mem_nil
        refine rb_astore_n (lv' := [(3, .ref q_67), (2, .ref ((n + k_6) + k_21)), (1, .ref r_4), (0, .ref o)]) C dX1_execute_38 rfl (by decide) rfl ?_
        refine rb_aload_n C dX1_execute_39 rfl 3 rfl ?_
        refine rb_aload_n C dX1_execute_40 rfl 0 rfl ?_
        obtain ⟨u_93, e_94, hf⟩ := rb_bd hf
        obtain ⟨⟨r_96, h_97, k_98, s_99⟩, e_100, hf⟩ := rb_bd hf
        obtain ⟨a_103, b_104, hf, ea_101, eb_102⟩ := ad_at hf
        refine rb_callV (As := [.ref q_67]) (rest := []) C mi_X1_deny sv_X1_164 (hp_k_isC C.pf e_94 ck_X1) (ct_X1_deny Ev h_57 (((((n + k_6) + k_21) + 1) + k_41) + k_58) o q_67 r_96 _ _ _ e_100) rfl rfl (Nat.le_of_ble_eq_true rfl) ⟨Nat.le_of_ble_eq_true rfl, Nat.le_of_ble_eq_true rfl, Bd.c1 hb ea_101, Bd.s1 hb eb_102⟩ dX1_execute_41 rb_xX (rb_kX (rb_w (kc := ((((((0 + k_6) + k_21) + 1) + k_41) + k_58) + k_98)) (ks := ((((((0 + s_7) + s_22) + 5) + s_42) + s_59) + s_99)) rfl rfl ?_))
        have hb := Bd.ade hb ea_101 eb_102
        obtain ⟨u_106, e_105, hf⟩ := rb_bd hf
        refine rb_hthrow (rest := []) C ck_J24 e_105 dX1_execute_44 ?_
        cases hf
        refine rb_outP C ?_ hb.e.2.1 hb.e.2.2 ⟨rfl, rfl, hb.e.1⟩
        intro z hz
        simp only [tableOf, List.map_cons, List.map_nil, List.mem_cons, List.not_mem_nil, or_false] at hz
        · subst hz; exact Or.inl rfl
      have hf := (if_neg c_92).symm.trans hf
      cases hf
  · dsimp only at hf
    by_cases c_107 : E_29 = "java/lang/IllegalArgumentException"
    · have hf := (if_pos c_107).symm.trans hf
      subst c_107
      refine rb_callS (As := [.int v_16]) (rest := []) C mi_X1_requireArgument ss_X1_28 (ct_X1_requireArgument Ev h_5 (n + k_6) v_16 (.inr ("java/lang/IllegalArgumentException", q_30)) _ _ _ e_23) rfl rfl (Nat.le_of_ble_eq_true rfl) ⟨Nat.le_of_ble_eq_true rfl, Nat.le_of_ble_eq_true rfl, Bd.c1 hb ea_24, Bd.s1 hb eb_25⟩ dX1_execute_9 (rb_xY (E := "java/lang/IllegalArgumentException") (rb_wX (kc := ((0 + k_6) + k_21)) (ks := ((0 + s_7) + s_22)) rfl rfl ?_)) rb_kY
      have hb := Bd.ade hb ea_24 eb_25
      cases hf
      refine rb_outP C ?_ hb.e.2.1 hb.e.2.2 ⟨rfl, rfl, hb.e.1⟩
      intro z hz
      simp only [tableOf, List.map_cons, List.map_nil, List.mem_cons, List.not_mem_nil, or_false] at hz
      · subst hz; exact Or.inl rfl
    have hf := (if_neg c_107).symm.trans hf
    cases hf
def f_X1_faultPosition_j13_4 (Ev : rb_E) (o : Nat) (h : AH) (n : Nat) (w0_j13_4 : Int32) : Option ((Int32 ⊕ (String × Nat)) × AH × Nat × Nat) := ((f_X1_requireElement Ev h n w0_j13_4).bind fun (r_6, h_7, k_8, s_9) => (ad k_8 s_9 (match r_6 with | .inl v_15 => ((hp_i Ev h_7 o 0 4).bind fun v_18 => (some (.inl v_18, h_7, 0, 0))) | .inr (E_16, q_17) => (if E_16 = "java/util/NoSuchElementException" then (some (.inr ("java/util/NoSuchElementException", q_17), h_7, 0, 0)) else none))))
def f_X1_faultPosition (Ev : rb_E) (h : AH) (n : Nat) (o : Nat) : Option ((Int32 ⊕ (String × Nat)) × AH × Nat × Nat) := ((hp_i Ev h o 0 4).bind fun v_1 => (if v_1 = (-1) then (f_X1_faultPosition_j13_4 Ev o h n 0) else (f_X1_faultPosition_j13_4 Ev o h n 1)))
abbrev rm_X1_faultPosition (k s : Nat) : Room := { frames := 7, cells := k, slots := s, locals := 109 }
set_option maxHeartbeats 4000000 in
theorem ct_X1_faultPosition (Ev : rb_E) (h : AH) (n : Nat) (o : Nat) (r : Int32 ⊕ (String × Nat)) (h' : AH) (k s : Nat) (hf : f_X1_faultPosition Ev h n o = some (r, h', k, s)) : Ct Ev yX1_faultPosition (ws_ yX1_faultPosition cX1_faultPosition 1 (some .int)) (rm_X1_faultPosition k s) [.ref o] h n (pX (rMap (fun v => some (.int v)) r) h' (n + k)) := by
  rw [f_X1_faultPosition] at hf
  refine Ct.of rfl (Nat.le_of_ble_eq_true rfl) fun X C hnm => ?_
  have C : Cx Ev X RX1 cX1_faultPosition 1 (some .int) [] := C
  show Wa Ev X (rm_X1_faultPosition k s) 1 h n 0 0 (rb_MQ Ev X (rm_X1_faultPosition k s) (pX (rMap (fun v => some (.int v)) r) h' (n + k))) 0 [(0, .ref o)] []
  have hb : Bd (n + k) k s n 0 0 k s := ⟨rfl, Nat.le_of_eq (Nat.zero_add _), Nat.le_of_eq (Nat.zero_add _)⟩
  refine rb_aload_n C dX1_faultPosition_0 rfl 0 rfl ?_
  obtain ⟨v_1, e_2, hf⟩ := rb_bd hf
  refine rb_hI C fl_X1_123_X1 e_2 dX1_faultPosition_1 ?_
  refine rb_iconst (v := (-1)) C dX1_faultPosition_4 rfl ?_
  have J_j13_4 : ∀ (w0_j13_4 : Int32) (kc_j13_4 ks_j13_4 a_ b_ : Nat), f_X1_faultPosition_j13_4 Ev o h n w0_j13_4 = some (r, h', a_, b_) → Bd (n + k) k s n kc_j13_4 ks_j13_4 a_ b_ → Wa Ev X (rm_X1_faultPosition k s) 1 h n kc_j13_4 ks_j13_4 (rb_MQ Ev X (rm_X1_faultPosition k s) (pX (rMap (fun v => some (.int v)) r) h' (n + k))) 13 [(0, .ref o)] [.int w0_j13_4] := by
    intro w0_j13_4 kc_j13_4 ks_j13_4 a_ b_ hf hb
    rw [f_X1_faultPosition_j13_4] at hf
    obtain ⟨⟨r_6, h_7, k_8, s_9⟩, e_10, hf⟩ := rb_bd hf
    obtain ⟨a_13, b_14, hf, ea_11, eb_12⟩ := ad_at hf
    rcases r_6 with v_15 | ⟨E_16, q_17⟩
    · dsimp only at hf
      refine rb_callS (As := [.int w0_j13_4]) (rest := []) C mi_X1_requireElement ss_X1_202 (ct_X1_requireElement Ev h n w0_j13_4 (.inl v_15) _ _ _ e_10) rfl rfl (Nat.le_of_ble_eq_true rfl) ⟨Nat.le_of_ble_eq_true rfl, Nat.le_of_ble_eq_true rfl, Bd.c1 hb ea_11, Bd.s1 hb eb_12⟩ dX1_faultPosition_13 rb_xX (rb_kX (r := none) (rb_w (kc := (kc_j13_4 + k_8)) (ks := (ks_j13_4 + s_9)) rfl rfl ?_))
      have hb := Bd.ade hb ea_11 eb_12
      refine rb_aload_n C dX1_faultPosition_16 rfl 0 rfl ?_
      obtain ⟨v_18, e_19, hf⟩ := rb_bd hf
      refine rb_hI C fl_X1_123_X1 e_19 dX1_faultPosition_17 ?_
      cases hf
      exact rb_iret C rfl rfl hb.e.2.1 hb.e.2.2 dX1_faultPosition_20 ⟨rfl, rfl, hb.e.1⟩
    · dsimp only at hf
      by_cases c_20 : E_16 = "java/util/NoSuchElementException"
      · have hf := (if_pos c_20).symm.trans hf
        subst c_20
        refine rb_callS (As := [.int w0_j13_4]) (rest := []) C mi_X1_requireElement ss_X1_202 (ct_X1_requireElement Ev h n w0_j13_4 (.inr ("java/util/NoSuchElementException", q_17)) _ _ _ e_10) rfl rfl (Nat.le_of_ble_eq_true rfl) ⟨Nat.le_of_ble_eq_true rfl, Nat.le_of_ble_eq_true rfl, Bd.c1 hb ea_11, Bd.s1 hb eb_12⟩ dX1_faultPosition_13 (rb_xY (E := "java/util/NoSuchElementException") (rb_wX (kc := (kc_j13_4 + k_8)) (ks := (ks_j13_4 + s_9)) rfl rfl ?_)) rb_kY
        have hb := Bd.ade hb ea_11 eb_12
        cases hf
        exact rb_out C (fun _ z => absurd z List.not_mem_nil) hb.e.2.1 hb.e.2.2 ⟨rfl, rfl, hb.e.1⟩
      have hf := (if_neg c_20).symm.trans hf
      cases hf
  refine rb_icmp_eq (tgt := 12) C dX1_faultPosition_5 (by decide) (fun c_3 => ?_) (fun c_3 => ?_)
  · have hf := (if_pos c_3).symm.trans hf
    refine rb_iconst (v := 0) C dX1_faultPosition_12 rfl ?_
    exact J_j13_4 0  _ _ _ _ hf hb
  · have hf := (if_neg c_3).symm.trans hf
    refine rb_iconst (v := 1) C dX1_faultPosition_8 rfl ?_
    refine rb_goto (tgt := 13) C dX1_faultPosition_9 (by decide) ?_
    exact J_j13_4 1  _ _ _ _ hf hb
def f_X1_writeFull (Ev : rb_E) (h : AH) (n : Nat) (o : Nat) : Option ((Int32 ⊕ (String × Nat)) × AH × Nat × Nat) := ((hp_k Ev h o 0).bind fun u_1 => ((f_X1_tree Ev h n o).bind fun (r_4, h_5, k_6, s_7) => (ad k_6 s_7 (match r_4 with | .inl v_13 => ((f_X1_fullText Ev 30 h_5 (n + k_6) v_13).bind fun (r_17, h_18, k_19, s_20) => (ad k_19 s_20 ((hp_put h_18 o 0 3 (.ref r_17)).bind fun h_26 => ((hp_p Ev h_26 o 0 3).bind fun v_28 => ((hp_k Ev h_26 v_28 14).bind fun u_30 => ((f_J2_length Ev h_26 v_28).bind fun v_33 => (some (.inl v_33, h_26, 0, 0)))))))) | .inr (E_14, q_15) => (if E_14 = "java/lang/UnsupportedOperationException" then (some (.inr ("java/lang/UnsupportedOperationException", q_15), h_5, 0, 0)) else none)))))
abbrev rm_X1_writeFull (k s : Nat) : Room := { frames := 75, cells := k, slots := s, locals := 2866 }
set_option maxHeartbeats 4000000 in
theorem ct_X1_writeFull (Ev : rb_E) (h : AH) (n : Nat) (o : Nat) (r : Int32 ⊕ (String × Nat)) (h' : AH) (k s : Nat) (hf : f_X1_writeFull Ev h n o = some (r, h', k, s)) : Ct Ev yX1_writeFull (ws_ yX1_writeFull cX1_writeFull 1 (some .int)) (rm_X1_writeFull k s) [.ref o] h n (pX (rMap (fun v => some (.int v)) r) h' (n + k)) := by
  rw [f_X1_writeFull] at hf
  refine Ct.of rfl (Nat.le_of_ble_eq_true rfl) fun X C hnm => ?_
  have C : Cx Ev X RX1 cX1_writeFull 1 (some .int) [] := C
  show Wa Ev X (rm_X1_writeFull k s) 1 h n 0 0 (rb_MQ Ev X (rm_X1_writeFull k s) (pX (rMap (fun v => some (.int v)) r) h' (n + k))) 0 [(0, .ref o)] []
  have hb : Bd (n + k) k s n 0 0 k s := ⟨rfl, Nat.le_of_eq (Nat.zero_add _), Nat.le_of_eq (Nat.zero_add _)⟩
  refine rb_aload_n C dX1_writeFull_0 rfl 0 rfl ?_
  refine rb_aload_n C dX1_writeFull_1 rfl 0 rfl ?_
  obtain ⟨u_1, e_2, hf⟩ := rb_bd hf
  obtain ⟨⟨r_4, h_5, k_6, s_7⟩, e_8, hf⟩ := rb_bd hf
  obtain ⟨a_11, b_12, hf, ea_9, eb_10⟩ := ad_at hf
  rcases r_4 with v_13 | ⟨E_14, q_15⟩
  · dsimp only at hf
    refine rb_callVX (As := []) (rest := [.ref o]) C mi_X1_tree sv_X1_239 (hp_k_isC C.pf e_2 ck_X1) (ct_X1_tree Ev h n o (.inl v_13) _ _ _ e_8) rfl rfl (Nat.le_of_ble_eq_true rfl) ⟨Nat.le_of_ble_eq_true rfl, Nat.le_of_ble_eq_true rfl, Bd.c1 hb ea_9, Bd.s1 hb eb_10⟩ dX1_writeFull_2 rb_xX (rb_kX (r := some (.ref v_13)) (rb_w (kc := (0 + k_6)) (ks := (0 + s_7)) rfl rfl ?_))
    have hb := Bd.ade hb ea_9 eb_10
    obtain ⟨⟨r_17, h_18, k_19, s_20⟩, e_21, hf⟩ := rb_bd hf
    obtain ⟨a_24, b_25, hf, ea_22, eb_23⟩ := ad_at hf
    refine rb_callS (As := [.ref v_13]) (rest := [.ref o]) C mi_X1_fullText ss_X1_72 (ct_X1_fullText Ev h_5 (n + k_6) 30 v_13 r_17 _ _ _ e_21) rfl rfl (Nat.le_of_ble_eq_true rfl) ⟨Nat.le_of_ble_eq_true rfl, Nat.le_of_ble_eq_true rfl, Bd.c1 hb ea_22, Bd.s1 hb eb_23⟩ dX1_writeFull_5 rb_xX (rb_kX (rb_w (kc := ((0 + k_6) + k_19)) (ks := ((0 + s_7) + s_20)) rfl rfl ?_))
    have hb := Bd.ade hb ea_22 eb_23
    obtain ⟨h_26, e_27, hf⟩ := rb_bd hf
    refine rb_hput C fw_X1_119_X1 e_27 rfl rfl dX1_writeFull_8 ?_
    refine rb_aload_n C dX1_writeFull_11 rfl 0 rfl ?_
    obtain ⟨v_28, e_29, hf⟩ := rb_bd hf
    refine rb_hP C fl_X1_119_X1 e_29 dX1_writeFull_12 ?_
    obtain ⟨u_30, e_31, hf⟩ := rb_bd hf
    obtain ⟨v_33, e_34, hf⟩ := rb_bd hf
    refine rb_callV (As := []) (rest := []) C mi_J2_length sv_X1_228 (hp_k_isC C.pf e_31 ck_J2) (ct_J2_length Ev h_26 ((n + k_6) + k_19) v_28 _ e_34) rfl rfl (Nat.le_of_ble_eq_true rfl) ⟨Nat.le_of_ble_eq_true rfl, Nat.le_of_ble_eq_true rfl, hb.c0, hb.s0⟩ dX1_writeFull_15 rb_xXi (rb_kXi fun hn_32 => (rb_w (kc := ((0 + k_6) + k_19)) (ks := ((0 + s_7) + s_20)) rfl rfl ?_))
    cases hf
    exact rb_iret C rfl rfl hb.e.2.1 hb.e.2.2 dX1_writeFull_18 ⟨rfl, rfl, hb.e.1⟩
  · dsimp only at hf
    by_cases c_35 : E_14 = "java/lang/UnsupportedOperationException"
    · have hf := (if_pos c_35).symm.trans hf
      subst c_35
      refine rb_callVX (As := []) (rest := [.ref o]) C mi_X1_tree sv_X1_239 (hp_k_isC C.pf e_2 ck_X1) (ct_X1_tree Ev h n o (.inr ("java/lang/UnsupportedOperationException", q_15)) _ _ _ e_8) rfl rfl (Nat.le_of_ble_eq_true rfl) ⟨Nat.le_of_ble_eq_true rfl, Nat.le_of_ble_eq_true rfl, Bd.c1 hb ea_9, Bd.s1 hb eb_10⟩ dX1_writeFull_2 (rb_xY (E := "java/lang/UnsupportedOperationException") (rb_wX (kc := (0 + k_6)) (ks := (0 + s_7)) rfl rfl ?_)) rb_kY
      have hb := Bd.ade hb ea_9 eb_10
      cases hf
      exact rb_out C (fun _ z => absurd z List.not_mem_nil) hb.e.2.1 hb.e.2.2 ⟨rfl, rfl, hb.e.1⟩
    have hf := (if_neg c_35).symm.trans hf
    cases hf
def f_X1_writeShort_j88_68 (Ev : rb_E) (y3_l21_42 : Int32) (rec_l21_42 : Nat → Int32 → AH → Nat → Option ((Int32 ⊕ (String × Nat)) × AH × Nat × Nat)) (w0_j76_66 : Nat) (h_j76_66 : AH) (n_j76_66 : Nat) (w0_j88_68 : Int32) : Option ((Int32 ⊕ (String × Nat)) × AH × Nat × Nat) := (rec_l21_42 w0_j76_66 (y3_l21_42 + w0_j88_68) h_j76_66 n_j76_66)
def f_X1_writeShort_j76_66 (Ev : rb_E) (y3_l21_42 : Int32) (rec_l21_42 : Nat → Int32 → AH → Nat → Option ((Int32 ⊕ (String × Nat)) × AH × Nat × Nat)) (w0_j60_64 : Int32) (w0_j76_66 : Nat) (h_j76_66 : AH) (n_j76_66 : Nat) : Option ((Int32 ⊕ (String × Nat)) × AH × Nat × Nat) := (if w0_j60_64 = 0 then (f_X1_writeShort_j88_68 Ev y3_l21_42 rec_l21_42 w0_j76_66 h_j76_66 n_j76_66 1) else (f_X1_writeShort_j88_68 Ev y3_l21_42 rec_l21_42 w0_j76_66 h_j76_66 n_j76_66 0))
def f_X1_writeShort_j60_64 (Ev : rb_E) (y2_l21_42 : Nat) (y3_l21_42 : Int32) (rec_l21_42 : Nat → Int32 → AH → Nat → Option ((Int32 ⊕ (String × Nat)) × AH × Nat × Nat)) (w0_j60_64 : Int32) (h_j60_64 : AH) (n_j60_64 : Nat) : Option ((Int32 ⊕ (String × Nat)) × AH × Nat × Nat) := (if w0_j60_64 = 0 then (f_X1_writeShort_j76_66 Ev y3_l21_42 rec_l21_42 w0_j60_64 y2_l21_42 h_j60_64 n_j60_64) else ((f_X1_withoutPair Ev h_j60_64 n_j60_64 y2_l21_42 y3_l21_42).bind fun (r_70, h_71, k_72, s_73) => (ad k_72 s_73 (f_X1_writeShort_j76_66 Ev y3_l21_42 rec_l21_42 w0_j60_64 r_70 h_71 (n_j60_64 + k_72)))))
def f_X1_writeShort_l21_42 (Ev : rb_E) (o : Nat) (r_17 : Nat) : Nat → Nat → Int32 → AH → Nat → Option ((Int32 ⊕ (String × Nat)) × AH × Nat × Nat)
  | 0, _, _, _, _ => none
  | k_l21_42 + 1, y2_l21_42, y3_l21_42, h_l21_42, n_l21_42 => ((hp_k Ev h_l21_42 y2_l21_42 14).bind fun u_43 => ((f_J2_length Ev h_l21_42 y2_l21_42).bind fun v_46 => (if v_46 ≤ y3_l21_42 then ((hp_put h_l21_42 o 0 3 (.ref y2_l21_42)).bind fun h_49 => ((hp_p Ev h_49 o 0 3).bind fun v_51 => ((hp_k Ev h_49 v_51 14).bind fun u_53 => ((f_J2_length Ev h_49 v_51).bind fun v_56 => (some (.inl v_56, h_49, 0, 0)))))) else ((hp_k Ev h_l21_42 y2_l21_42 14).bind fun u_58 => ((f_J2_charAt Ev h_l21_42 y2_l21_42 y3_l21_42).bind fun v_61 => (if v_61 = 40 then ((f_X1_withoutPair Ev h_l21_42 n_l21_42 y2_l21_42 y3_l21_42).bind fun (r_80, h_81, k_82, s_83) => (ad k_82 s_83 ((hp_k Ev h_81 o 0).bind fun u_89 => ((f_X1_fullTextOf Ev h_81 (n_l21_42 + k_82) o r_80).bind fun (r_92, h_93, k_94, s_95) => (ad k_94 s_95 ((hp_k Ev h_93 r_92 14).bind fun u_101 => ((f_J2_equals Ev h_93 r_92 r_17).bind fun v_104 => (if v_104 = 0 then (f_X1_writeShort_j60_64 Ev y2_l21_42 y3_l21_42 (f_X1_writeShort_l21_42 Ev o r_17 k_l21_42) 0 h_93 ((n_l21_42 + k_82) + k_94)) else (f_X1_writeShort_j60_64 Ev y2_l21_42 y3_l21_42 (f_X1_writeShort_l21_42 Ev o r_17 k_l21_42) 1 h_93 ((n_l21_42 + k_82) + k_94)))))))))) else (f_X1_writeShort_j60_64 Ev y2_l21_42 y3_l21_42 (f_X1_writeShort_l21_42 Ev o r_17 k_l21_42) 0 h_l21_42 n_l21_42)))))))
def f_X1_writeShort (Ev : rb_E) (h : AH) (n : Nat) (o : Nat) : Option ((Int32 ⊕ (String × Nat)) × AH × Nat × Nat) := ((hp_k Ev h o 0).bind fun u_1 => ((f_X1_tree Ev h n o).bind fun (r_4, h_5, k_6, s_7) => (ad k_6 s_7 (match r_4 with | .inl v_13 => ((f_X1_fullText Ev 30 h_5 (n + k_6) v_13).bind fun (r_17, h_18, k_19, s_20) => (ad k_19 s_20 ((hp_p Ev h_18 o 0 0).bind fun v_26 => ((hp_p Ev h_18 v_26 1 0).bind fun v_28 => ((hp_k Ev h_18 v_28 13).bind fun u_30 => ((f_J1_toString Ev h_18 ((n + k_6) + k_19) v_28).bind fun (r_33, h_34, k_35, s_36) => (ad k_35 s_36 (f_X1_writeShort_l21_42 Ev o r_17 4096 r_33 0 h_34 (((n + k_6) + k_19) + k_35))))))))) | .inr (E_14, q_15) => (if E_14 = "java/lang/UnsupportedOperationException" then (some (.inr ("java/lang/UnsupportedOperationException", q_15), h_5, 0, 0)) else none)))))
abbrev rm_X1_writeShort (k s : Nat) : Room := { frames := 75, cells := k, slots := s, locals := 2866 }
set_option maxHeartbeats 4000000 in
theorem ct_X1_writeShort (Ev : rb_E) (h : AH) (n : Nat) (o : Nat) (r : Int32 ⊕ (String × Nat)) (h' : AH) (k s : Nat) (hf : f_X1_writeShort Ev h n o = some (r, h', k, s)) : Ct Ev yX1_writeShort (ws_ yX1_writeShort cX1_writeShort 5 (some .int)) (rm_X1_writeShort k s) [.ref o] h n (pX (rMap (fun v => some (.int v)) r) h' (n + k)) := by
  rw [f_X1_writeShort] at hf
  refine Ct.of rfl (Nat.le_of_ble_eq_true rfl) fun X C hnm => ?_
  have C : Cx Ev X RX1 cX1_writeShort 5 (some .int) [] := C
  show Wa Ev X (rm_X1_writeShort k s) 5 h n 0 0 (rb_MQ Ev X (rm_X1_writeShort k s) (pX (rMap (fun v => some (.int v)) r) h' (n + k))) 0 [(0, .ref o)] []
  have hb : Bd (n + k) k s n 0 0 k s := ⟨rfl, Nat.le_of_eq (Nat.zero_add _), Nat.le_of_eq (Nat.zero_add _)⟩
  refine rb_aload_n C dX1_writeShort_0 rfl 0 rfl ?_
  obtain ⟨u_1, e_2, hf⟩ := rb_bd hf
  obtain ⟨⟨r_4, h_5, k_6, s_7⟩, e_8, hf⟩ := rb_bd hf
  obtain ⟨a_11, b_12, hf, ea_9, eb_10⟩ := ad_at hf
  rcases r_4 with v_13 | ⟨E_14, q_15⟩
  · dsimp only at hf
    refine rb_callVX (As := []) (rest := []) C mi_X1_tree sv_X1_239 (hp_k_isC C.pf e_2 ck_X1) (ct_X1_tree Ev h n o (.inl v_13) _ _ _ e_8) rfl rfl (Nat.le_of_ble_eq_true rfl) ⟨Nat.le_of_ble_eq_true rfl, Nat.le_of_ble_eq_true rfl, Bd.c1 hb ea_9, Bd.s1 hb eb_10⟩ dX1_writeShort_1 rb_xX (rb_kX (r := some (.ref v_13)) (rb_w (kc := (0 + k_6)) (ks := (0 + s_7)) rfl rfl ?_))
    have hb := Bd.ade hb ea_9 eb_10
    obtain ⟨⟨r_17, h_18, k_19, s_20⟩, e_21, hf⟩ := rb_bd hf
    obtain ⟨a_24, b_25, hf, ea_22, eb_23⟩ := ad_at hf
    refine rb_callS (As := [.ref v_13]) (rest := []) C mi_X1_fullText ss_X1_72 (ct_X1_fullText Ev h_5 (n + k_6) 30 v_13 r_17 _ _ _ e_21) rfl rfl (Nat.le_of_ble_eq_true rfl) ⟨Nat.le_of_ble_eq_true rfl, Nat.le_of_ble_eq_true rfl, Bd.c1 hb ea_22, Bd.s1 hb eb_23⟩ dX1_writeShort_4 rb_xX (rb_kX (rb_w (kc := ((0 + k_6) + k_19)) (ks := ((0 + s_7) + s_20)) rfl rfl ?_))
    have hb := Bd.ade hb ea_22 eb_23
    refine rb_astore_n (lv' := [(1, .ref r_17), (0, .ref o)]) C dX1_writeShort_7 rfl (by decide) rfl ?_
    refine rb_aload_n C dX1_writeShort_8 rfl 1 rfl ?_
    obtain ⟨v_26, e_27, hf⟩ := rb_bd hf
    refine rb_hP C fl_X1_104_X1 e_27 dX1_writeShort_9 ?_
    obtain ⟨v_28, e_29, hf⟩ := rb_bd hf
    refine rb_hP C fl_X1_182_X2 e_29 dX1_writeShort_12 ?_
    obtain ⟨u_30, e_31, hf⟩ := rb_bd hf
    obtain ⟨⟨r_33, h_34, k_35, s_36⟩, e_37, hf⟩ := rb_bd hf
    obtain ⟨a_40, b_41, hf, ea_38, eb_39⟩ := ad_at hf
    refine rb_callV (As := []) (rest := []) C mi_J1_toString sv_X1_78 (hp_k_isC C.pf e_31 ck_J1) (ct_J1_toString Ev h_18 ((n + k_6) + k_19) v_28 r_33 _ _ _ e_37) rfl rfl (Nat.le_of_ble_eq_true rfl) ⟨Nat.le_of_ble_eq_true rfl, Nat.le_of_ble_eq_true rfl, Bd.c1 hb ea_38, Bd.s1 hb eb_39⟩ dX1_writeShort_15 rb_xX (rb_kX (rb_w (kc := (((0 + k_6) + k_19) + k_35)) (ks := (((0 + s_7) + s_20) + s_36)) rfl rfl ?_))
    have hb := Bd.ade hb ea_38 eb_39
    refine rb_astore_n (lv' := [(2, .ref r_33), (1, .ref r_17), (0, .ref o)]) C dX1_writeShort_18 rfl (by decide) rfl ?_
    refine rb_iconst (v := 0) C dX1_writeShort_19 rfl ?_
    refine rb_istore_n (lv' := [(3, .int 0), (2, .ref r_33), (1, .ref r_17), (0, .ref o)]) C dX1_writeShort_20 rfl (by decide) rfl ?_
    have L_l21_42 : ∀ (k_l21_42 : Nat) (y2_l21_42 : Nat) (y3_l21_42 : Int32) (h_l21_42 : AH) (n_l21_42 kc_l21_42 ks_l21_42 a_ b_ : Nat), f_X1_writeShort_l21_42 Ev o r_17 k_l21_42 y2_l21_42 y3_l21_42 h_l21_42 n_l21_42 = some (r, h', a_, b_) → Bd (n + k) k s n_l21_42 kc_l21_42 ks_l21_42 a_ b_ → Wa Ev X (rm_X1_writeShort k s) 5 h_l21_42 n_l21_42 kc_l21_42 ks_l21_42 (rb_MQ Ev X (rm_X1_writeShort k s) (pX (rMap (fun v => some (.int v)) r) h' (n + k))) 21 [(0, .ref o), (1, .ref r_17), (2, .ref y2_l21_42), (3, .int y3_l21_42)] [] := by
      intro k_l21_42
      induction k_l21_42 with
      | zero => intro y2_l21_42 y3_l21_42 h_l21_42 n_l21_42 kc_l21_42 ks_l21_42 a_ b_ hf hb; cases hf
      | succ k_l21_42 ih_l21_42 =>
        intro y2_l21_42 y3_l21_42 h_l21_42 n_l21_42 kc_l21_42 ks_l21_42 a_ b_ hf hb
        rw [f_X1_writeShort_l21_42] at hf
        refine rb_iload_n C dX1_writeShort_21 rfl 3 rfl ?_
        refine rb_aload_n C dX1_writeShort_22 rfl 2 rfl ?_
        obtain ⟨u_43, e_44, hf⟩ := rb_bd hf
        obtain ⟨v_46, e_47, hf⟩ := rb_bd hf
        refine rb_callV (As := []) (rest := [.int y3_l21_42]) C mi_J2_length sv_X1_228 (hp_k_isC C.pf e_44 ck_J2) (ct_J2_length Ev h_l21_42 n_l21_42 y2_l21_42 _ e_47) rfl rfl (Nat.le_of_ble_eq_true rfl) ⟨Nat.le_of_ble_eq_true rfl, Nat.le_of_ble_eq_true rfl, hb.c0, hb.s0⟩ dX1_writeShort_23 rb_xXi (rb_kXi fun hn_45 => (rb_w (kc := kc_l21_42) (ks := ks_l21_42) rfl rfl ?_))
        refine rb_icmp_ge (tgt := 93) C dX1_writeShort_26 (by decide) (fun c_48 => ?_) (fun c_48 => ?_)
        · have hf := (if_pos c_48).symm.trans hf
          refine rb_aload_n C dX1_writeShort_93 rfl 0 rfl ?_
          refine rb_aload_n C dX1_writeShort_94 rfl 2 rfl ?_
          obtain ⟨h_49, e_50, hf⟩ := rb_bd hf
          refine rb_hput C fw_X1_119_X1 e_50 rfl rfl dX1_writeShort_95 ?_
          refine rb_aload_n C dX1_writeShort_98 rfl 0 rfl ?_
          obtain ⟨v_51, e_52, hf⟩ := rb_bd hf
          refine rb_hP C fl_X1_119_X1 e_52 dX1_writeShort_99 ?_
          obtain ⟨u_53, e_54, hf⟩ := rb_bd hf
          obtain ⟨v_56, e_57, hf⟩ := rb_bd hf
          refine rb_callV (As := []) (rest := []) C mi_J2_length sv_X1_228 (hp_k_isC C.pf e_54 ck_J2) (ct_J2_length Ev h_49 n_l21_42 v_51 _ e_57) rfl rfl (Nat.le_of_ble_eq_true rfl) ⟨Nat.le_of_ble_eq_true rfl, Nat.le_of_ble_eq_true rfl, hb.c0, hb.s0⟩ dX1_writeShort_102 rb_xXi (rb_kXi fun hn_55 => (rb_w (kc := kc_l21_42) (ks := ks_l21_42) rfl rfl ?_))
          cases hf
          exact rb_iret C rfl rfl hb.e.2.1 hb.e.2.2 dX1_writeShort_105 ⟨rfl, rfl, hb.e.1⟩
        · have hf := (if_neg c_48).symm.trans hf
          refine rb_aload_n C dX1_writeShort_29 rfl 2 rfl ?_
          refine rb_iload_n C dX1_writeShort_30 rfl 3 rfl ?_
          obtain ⟨u_58, e_59, hf⟩ := rb_bd hf
          obtain ⟨v_61, e_62, hf⟩ := rb_bd hf
          refine rb_callV (As := [.int y3_l21_42]) (rest := []) C mi_J2_charAt sv_X1_233 (hp_k_isC C.pf e_59 ck_J2) (ct_J2_charAt Ev h_l21_42 n_l21_42 y2_l21_42 y3_l21_42 _ e_62) rfl rfl (Nat.le_of_ble_eq_true rfl) ⟨Nat.le_of_ble_eq_true rfl, Nat.le_of_ble_eq_true rfl, hb.c0, hb.s0⟩ dX1_writeShort_31 rb_xXi (rb_kXi fun hn_60 => (rb_w (kc := kc_l21_42) (ks := ks_l21_42) rfl rfl ?_))
          refine rb_bipush (v := 40) C dX1_writeShort_34 rfl ?_
          have J_j60_64 : ∀ (w0_j60_64 : Int32) (h_j60_64 : AH) (n_j60_64 : Nat) (kc_j60_64 ks_j60_64 a_ b_ : Nat), f_X1_writeShort_j60_64 Ev y2_l21_42 y3_l21_42 (f_X1_writeShort_l21_42 Ev o r_17 k_l21_42) w0_j60_64 h_j60_64 n_j60_64 = some (r, h', a_, b_) → Bd (n + k) k s n_j60_64 kc_j60_64 ks_j60_64 a_ b_ → Wa Ev X (rm_X1_writeShort k s) 5 h_j60_64 n_j60_64 kc_j60_64 ks_j60_64 (rb_MQ Ev X (rm_X1_writeShort k s) (pX (rMap (fun v => some (.int v)) r) h' (n + k))) 60 [(0, .ref o), (1, .ref r_17), (2, .ref y2_l21_42), (3, .int y3_l21_42)] [.int w0_j60_64] := by
            intro w0_j60_64 h_j60_64 n_j60_64 kc_j60_64 ks_j60_64 a_ b_ hf hb
            rw [f_X1_writeShort_j60_64] at hf
            refine rb_istore (lv' := [(4, .int w0_j60_64), (0, .ref o), (1, .ref r_17), (2, .ref y2_l21_42), (3, .int y3_l21_42)]) C dX1_writeShort_60 (by decide) rfl ?_
            refine rb_iload C dX1_writeShort_62 0 rfl ?_
            have J_j76_66 : ∀ (w0_j76_66 : Nat) (h_j76_66 : AH) (n_j76_66 : Nat) (kc_j76_66 ks_j76_66 a_ b_ : Nat), f_X1_writeShort_j76_66 Ev y3_l21_42 (f_X1_writeShort_l21_42 Ev o r_17 k_l21_42) w0_j60_64 w0_j76_66 h_j76_66 n_j76_66 = some (r, h', a_, b_) → Bd (n + k) k s n_j76_66 kc_j76_66 ks_j76_66 a_ b_ → Wa Ev X (rm_X1_writeShort k s) 5 h_j76_66 n_j76_66 kc_j76_66 ks_j76_66 (rb_MQ Ev X (rm_X1_writeShort k s) (pX (rMap (fun v => some (.int v)) r) h' (n + k))) 76 [(0, .ref o), (1, .ref r_17), (2, .ref y2_l21_42), (3, .int y3_l21_42), (4, .int w0_j60_64)] [.ref w0_j76_66] := by
              intro w0_j76_66 h_j76_66 n_j76_66 kc_j76_66 ks_j76_66 a_ b_ hf hb
              rw [f_X1_writeShort_j76_66] at hf
              refine rb_astore_n (lv' := [(2, .ref w0_j76_66), (0, .ref o), (1, .ref r_17), (3, .int y3_l21_42), (4, .int w0_j60_64)]) C dX1_writeShort_76 rfl (by decide) rfl ?_
              refine rb_iload_n C dX1_writeShort_77 rfl 3 rfl ?_
              refine rb_iload C dX1_writeShort_78 4 rfl ?_
              have J_j88_68 : ∀ (w0_j88_68 : Int32) (kc_j88_68 ks_j88_68 a_ b_ : Nat), f_X1_writeShort_j88_68 Ev y3_l21_42 (f_X1_writeShort_l21_42 Ev o r_17 k_l21_42) w0_j76_66 h_j76_66 n_j76_66 w0_j88_68 = some (r, h', a_, b_) → Bd (n + k) k s n_j76_66 kc_j88_68 ks_j88_68 a_ b_ → Wa Ev X (rm_X1_writeShort k s) 5 h_j76_66 n_j76_66 kc_j88_68 ks_j88_68 (rb_MQ Ev X (rm_X1_writeShort k s) (pX (rMap (fun v => some (.int v)) r) h' (n + k))) 88 [(0, .ref o), (1, .ref r_17), (2, .ref w0_j76_66), (3, .int y3_l21_42), (4, .int w0_j60_64)] [.int w0_j88_68, .int y3_l21_42] := by
                intro w0_j88_68 kc_j88_68 ks_j88_68 a_ b_ hf hb
                rw [f_X1_writeShort_j88_68] at hf
                refine rb_iadd C dX1_writeShort_88 ?_
                refine rb_istore_n (lv' := [(3, .int (y3_l21_42 + w0_j88_68)), (0, .ref o), (1, .ref r_17), (2, .ref w0_j76_66), (4, .int w0_j60_64)]) C dX1_writeShort_89 rfl (by decide) rfl ?_
                refine rb_goto (tgt := 21) C dX1_writeShort_90 (by decide) ?_
                refine rb_sub [1, 2, 3, 0] rfl ?_
                exact ih_l21_42 w0_j76_66 (y3_l21_42 + w0_j88_68) h_j76_66 n_j76_66 _ _ _ _ hf hb
              refine rb_if_eq (tgt := 87) C dX1_writeShort_80 (by decide) (fun c_67 => ?_) (fun c_67 => ?_)
              · have hf := (if_pos c_67).symm.trans hf
                refine rb_iconst (v := 1) C dX1_writeShort_87 rfl ?_
                refine rb_sub [1, 2, 0, 3, 4] rfl ?_
                exact J_j88_68 1  _ _ _ _ hf hb
              · have hf := (if_neg c_67).symm.trans hf
                refine rb_iconst (v := 0) C dX1_writeShort_83 rfl ?_
                refine rb_goto (tgt := 88) C dX1_writeShort_84 (by decide) ?_
                refine rb_sub [1, 2, 0, 3, 4] rfl ?_
                exact J_j88_68 0  _ _ _ _ hf hb
            refine rb_if_eq (tgt := 75) C dX1_writeShort_64 (by decide) (fun c_65 => ?_) (fun c_65 => ?_)
            · have hf := (if_pos c_65).symm.trans hf
              refine rb_aload_n C dX1_writeShort_75 rfl 3 rfl ?_
              refine rb_sub [1, 2, 3, 4, 0] rfl ?_
              exact J_j76_66 y2_l21_42 h_j60_64 n_j60_64  _ _ _ _ hf hb
            · have hf := (if_neg c_65).symm.trans hf
              refine rb_aload_n C dX1_writeShort_67 rfl 3 rfl ?_
              refine rb_iload_n C dX1_writeShort_68 rfl 4 rfl ?_
              obtain ⟨⟨r_70, h_71, k_72, s_73⟩, e_74, hf⟩ := rb_bd hf
              obtain ⟨a_77, b_78, hf, ea_75, eb_76⟩ := ad_at hf
              refine rb_callS (As := [.ref y2_l21_42, .int y3_l21_42]) (rest := []) C mi_X1_withoutPair ss_X1_283 (ct_X1_withoutPair Ev h_j60_64 n_j60_64 y2_l21_42 y3_l21_42 r_70 _ _ _ e_74) rfl rfl (Nat.le_of_ble_eq_true rfl) ⟨Nat.le_of_ble_eq_true rfl, Nat.le_of_ble_eq_true rfl, Bd.c1 hb ea_75, Bd.s1 hb eb_76⟩ dX1_writeShort_69 rb_xX (rb_kX (rb_w (kc := (kc_j60_64 + k_72)) (ks := (ks_j60_64 + s_73)) rfl rfl ?_))
              have hb := Bd.ade hb ea_75 eb_76
              refine rb_goto (tgt := 76) C dX1_writeShort_72 (by decide) ?_
              refine rb_sub [1, 2, 3, 4, 0] rfl ?_
              exact J_j76_66 r_70 h_71 (n_j60_64 + k_72)  _ _ _ _ hf hb
          refine rb_icmp_ne (tgt := 59) C dX1_writeShort_36 (by decide) (fun c_63 => ?_) (fun c_63 => ?_)
          · have hf := (if_neg c_63).symm.trans hf
            refine rb_iconst (v := 0) C dX1_writeShort_59 rfl ?_
            exact J_j60_64 0 h_l21_42 n_l21_42  _ _ _ _ hf hb
          · have hf := (if_pos c_63).symm.trans hf
            refine rb_aload_n C dX1_writeShort_39 rfl 0 rfl ?_
            refine rb_aload_n C dX1_writeShort_40 rfl 2 rfl ?_
            refine rb_iload_n C dX1_writeShort_41 rfl 3 rfl ?_
            obtain ⟨⟨r_80, h_81, k_82, s_83⟩, e_84, hf⟩ := rb_bd hf
            obtain ⟨a_87, b_88, hf, ea_85, eb_86⟩ := ad_at hf
            refine rb_callS (As := [.ref y2_l21_42, .int y3_l21_42]) (rest := [.ref o]) C mi_X1_withoutPair ss_X1_283 (ct_X1_withoutPair Ev h_l21_42 n_l21_42 y2_l21_42 y3_l21_42 r_80 _ _ _ e_84) rfl rfl (Nat.le_of_ble_eq_true rfl) ⟨Nat.le_of_ble_eq_true rfl, Nat.le_of_ble_eq_true rfl, Bd.c1 hb ea_85, Bd.s1 hb eb_86⟩ dX1_writeShort_42 rb_xX (rb_kX (rb_w (kc := (kc_l21_42 + k_82)) (ks := (ks_l21_42 + s_83)) rfl rfl ?_))
            have hb := Bd.ade hb ea_85 eb_86
            obtain ⟨u_89, e_90, hf⟩ := rb_bd hf
            obtain ⟨⟨r_92, h_93, k_94, s_95⟩, e_96, hf⟩ := rb_bd hf
            obtain ⟨a_99, b_100, hf, ea_97, eb_98⟩ := ad_at hf
            refine rb_callV (As := [.ref r_80]) (rest := []) C mi_X1_fullTextOf sv_X1_287 (hp_k_isC C.pf e_90 ck_X1) (ct_X1_fullTextOf Ev h_81 (n_l21_42 + k_82) o r_80 r_92 _ _ _ e_96) rfl rfl (Nat.le_of_ble_eq_true rfl) ⟨Nat.le_of_ble_eq_true rfl, Nat.le_of_ble_eq_true rfl, Bd.c1 hb ea_97, Bd.s1 hb eb_98⟩ dX1_writeShort_45 rb_xX (rb_kX (rb_w (kc := ((kc_l21_42 + k_82) + k_94)) (ks := ((ks_l21_42 + s_83) + s_95)) rfl rfl ?_))
            have hb := Bd.ade hb ea_97 eb_98
            refine rb_aload_n C dX1_writeShort_48 rfl 1 rfl ?_
            obtain ⟨u_101, e_102, hf⟩ := rb_bd hf
            obtain ⟨v_104, e_105, hf⟩ := rb_bd hf
            refine rb_callV (As := [.ref r_17]) (rest := []) C mi_J2_equals sv_X1_291 (hp_k_isC C.pf e_102 ck_J2) (ct_J2_equals Ev h_93 ((n_l21_42 + k_82) + k_94) r_92 r_17 _ e_105) rfl rfl (Nat.le_of_ble_eq_true rfl) ⟨Nat.le_of_ble_eq_true rfl, Nat.le_of_ble_eq_true rfl, hb.c0, hb.s0⟩ dX1_writeShort_49 rb_xXi (rb_kXi fun hn_103 => (rb_w (kc := ((kc_l21_42 + k_82) + k_94)) (ks := ((ks_l21_42 + s_83) + s_95)) rfl rfl ?_))
            refine rb_if_eq (tgt := 59) C dX1_writeShort_52 (by decide) (fun c_106 => ?_) (fun c_106 => ?_)
            · have hf := (if_pos c_106).symm.trans hf
              refine rb_iconst (v := 0) C dX1_writeShort_59 rfl ?_
              exact J_j60_64 0 h_93 ((n_l21_42 + k_82) + k_94)  _ _ _ _ hf hb
            · have hf := (if_neg c_106).symm.trans hf
              refine rb_iconst (v := 1) C dX1_writeShort_55 rfl ?_
              refine rb_goto (tgt := 60) C dX1_writeShort_56 (by decide) ?_
              exact J_j60_64 1 h_93 ((n_l21_42 + k_82) + k_94)  _ _ _ _ hf hb
    refine rb_sub [3, 2, 1, 0] rfl ?_
    exact L_l21_42 4096 r_33 0 h_34 (((n + k_6) + k_19) + k_35) _ _ _ _ hf hb
  · dsimp only at hf
    by_cases c_107 : E_14 = "java/lang/UnsupportedOperationException"
    · have hf := (if_pos c_107).symm.trans hf
      subst c_107
      refine rb_callVX (As := []) (rest := []) C mi_X1_tree sv_X1_239 (hp_k_isC C.pf e_2 ck_X1) (ct_X1_tree Ev h n o (.inr ("java/lang/UnsupportedOperationException", q_15)) _ _ _ e_8) rfl rfl (Nat.le_of_ble_eq_true rfl) ⟨Nat.le_of_ble_eq_true rfl, Nat.le_of_ble_eq_true rfl, Bd.c1 hb ea_9, Bd.s1 hb eb_10⟩ dX1_writeShort_1 (rb_xY (E := "java/lang/UnsupportedOperationException") (rb_wX (kc := (0 + k_6)) (ks := (0 + s_7)) rfl rfl ?_)) rb_kY
      have hb := Bd.ade hb ea_9 eb_10
      cases hf
      exact rb_out C (fun _ z => absurd z List.not_mem_nil) hb.e.2.1 hb.e.2.2 ⟨rfl, rfl, hb.e.1⟩
    have hf := (if_neg c_107).symm.trans hf
    cases hf
def f_X1_lineCharacter (Ev : rb_E) (h : AH) (n : Nat) (o : Nat) (x1 : Int32) : Option ((Int32 ⊕ (String × Nat)) × AH × Nat × Nat) := ((hp_p Ev h o 0 3).bind fun v_1 => ((hp_k Ev h v_1 14).bind fun u_3 => ((f_J2_length Ev h v_1).bind fun v_6 => ((f_X1_requireIndex Ev h n x1 v_6).bind fun (r_9, h_10, k_11, s_12) => (ad k_11 s_12 (match r_9 with | .inl v_18 => ((hp_p Ev h_10 o 0 3).bind fun v_21 => ((hp_k Ev h_10 v_21 14).bind fun u_23 => ((f_J2_charAt Ev h_10 v_21 x1).bind fun v_26 => (some (.inl v_26, h_10, 0, 0))))) | .inr (E_19, q_20) => (if E_19 = "java/lang/IndexOutOfBoundsException" then (some (.inr ("java/lang/IndexOutOfBoundsException", q_20), h_10, 0, 0)) else none)))))))
abbrev rm_X1_lineCharacter (k s : Nat) : Room := { frames := 7, cells := k, slots := s, locals := 110 }
set_option maxHeartbeats 4000000 in
theorem ct_X1_lineCharacter (Ev : rb_E) (h : AH) (n : Nat) (o : Nat) (x1 : Int32) (r : Int32 ⊕ (String × Nat)) (h' : AH) (k s : Nat) (hf : f_X1_lineCharacter Ev h n o x1 = some (r, h', k, s)) : Ct Ev yX1_lineCharacter (ws_ yX1_lineCharacter cX1_lineCharacter 2 (some .char)) (rm_X1_lineCharacter k s) [.ref o, .int x1] h n (pX (rMap (fun v => some (.int v)) r) h' (n + k)) := by
  rw [f_X1_lineCharacter] at hf
  refine Ct.of rfl (Nat.le_of_ble_eq_true rfl) fun X C hnm => ?_
  have C : Cx Ev X RX1 cX1_lineCharacter 2 (some .char) [] := C
  show Wa Ev X (rm_X1_lineCharacter k s) 2 h n 0 0 (rb_MQ Ev X (rm_X1_lineCharacter k s) (pX (rMap (fun v => some (.int v)) r) h' (n + k))) 0 [(0, .ref o), (1, .int x1)] []
  have hb : Bd (n + k) k s n 0 0 k s := ⟨rfl, Nat.le_of_eq (Nat.zero_add _), Nat.le_of_eq (Nat.zero_add _)⟩
  refine rb_iload_n C dX1_lineCharacter_0 rfl 1 rfl ?_
  refine rb_aload_n C dX1_lineCharacter_1 rfl 0 rfl ?_
  obtain ⟨v_1, e_2, hf⟩ := rb_bd hf
  refine rb_hP C fl_X1_119_X1 e_2 dX1_lineCharacter_2 ?_
  obtain ⟨u_3, e_4, hf⟩ := rb_bd hf
  obtain ⟨v_6, e_7, hf⟩ := rb_bd hf
  refine rb_callV (As := []) (rest := [.int x1]) C mi_J2_length sv_X1_228 (hp_k_isC C.pf e_4 ck_J2) (ct_J2_length Ev h n v_1 _ e_7) rfl rfl (Nat.le_of_ble_eq_true rfl) ⟨Nat.le_of_ble_eq_true rfl, Nat.le_of_ble_eq_true rfl, hb.c0, hb.s0⟩ dX1_lineCharacter_5 rb_xXi (rb_kXi fun hn_5 => (rb_w (kc := 0) (ks := 0) rfl rfl ?_))
  obtain ⟨⟨r_9, h_10, k_11, s_12⟩, e_13, hf⟩ := rb_bd hf
  obtain ⟨a_16, b_17, hf, ea_14, eb_15⟩ := ad_at hf
  rcases r_9 with v_18 | ⟨E_19, q_20⟩
  · dsimp only at hf
    refine rb_callS (As := [.int x1, .int v_6]) (rest := []) C mi_X1_requireIndex ss_X1_189 (ct_X1_requireIndex Ev h n x1 v_6 (.inl v_18) _ _ _ e_13) rfl rfl (Nat.le_of_ble_eq_true rfl) ⟨Nat.le_of_ble_eq_true rfl, Nat.le_of_ble_eq_true rfl, Bd.c1 hb ea_14, Bd.s1 hb eb_15⟩ dX1_lineCharacter_8 rb_xX (rb_kX (r := none) (rb_w (kc := (0 + k_11)) (ks := (0 + s_12)) rfl rfl ?_))
    have hb := Bd.ade hb ea_14 eb_15
    refine rb_aload_n C dX1_lineCharacter_11 rfl 0 rfl ?_
    obtain ⟨v_21, e_22, hf⟩ := rb_bd hf
    refine rb_hP C fl_X1_119_X1 e_22 dX1_lineCharacter_12 ?_
    refine rb_iload_n C dX1_lineCharacter_15 rfl 1 rfl ?_
    obtain ⟨u_23, e_24, hf⟩ := rb_bd hf
    obtain ⟨v_26, e_27, hf⟩ := rb_bd hf
    refine rb_callV (As := [.int x1]) (rest := []) C mi_J2_charAt sv_X1_233 (hp_k_isC C.pf e_24 ck_J2) (ct_J2_charAt Ev h_10 (n + k_11) v_21 x1 _ e_27) rfl rfl (Nat.le_of_ble_eq_true rfl) ⟨Nat.le_of_ble_eq_true rfl, Nat.le_of_ble_eq_true rfl, hb.c0, hb.s0⟩ dX1_lineCharacter_16 rb_xXi (rb_kXi fun hn_25 => (rb_w (kc := (0 + k_11)) (ks := (0 + s_12)) rfl rfl ?_))
    cases hf
    exact rb_iret C rfl hn_25 hb.e.2.1 hb.e.2.2 dX1_lineCharacter_19 ⟨rfl, rfl, hb.e.1⟩
  · dsimp only at hf
    by_cases c_28 : E_19 = "java/lang/IndexOutOfBoundsException"
    · have hf := (if_pos c_28).symm.trans hf
      subst c_28
      refine rb_callS (As := [.int x1, .int v_6]) (rest := []) C mi_X1_requireIndex ss_X1_189 (ct_X1_requireIndex Ev h n x1 v_6 (.inr ("java/lang/IndexOutOfBoundsException", q_20)) _ _ _ e_13) rfl rfl (Nat.le_of_ble_eq_true rfl) ⟨Nat.le_of_ble_eq_true rfl, Nat.le_of_ble_eq_true rfl, Bd.c1 hb ea_14, Bd.s1 hb eb_15⟩ dX1_lineCharacter_8 (rb_xY (E := "java/lang/IndexOutOfBoundsException") (rb_wX (kc := (0 + k_11)) (ks := (0 + s_12)) rfl rfl ?_)) rb_kY
      have hb := Bd.ade hb ea_14 eb_15
      cases hf
      exact rb_out C (fun _ z => absurd z List.not_mem_nil) hb.e.2.1 hb.e.2.2 ⟨rfl, rfl, hb.e.1⟩
    have hf := (if_neg c_28).symm.trans hf
    cases hf
def f_X1_latestDenial (Ev : rb_E) (h : AH) (n : Nat) (o : Nat) : Option ((Nat ⊕ (String × Nat)) × AH × Nat × Nat) := ((hp_o Ev h o 0 5).bind fun v_1 => (match v_1 with | none => ((f_X1_requireElement Ev h n 0).bind fun (r_4, h_5, k_6, s_7) => (ad k_6 s_7 (match r_4 with | .inl v_13 => ((hp_o Ev h_5 o 0 5).bind fun v_16 => (match v_16 with | none => none | some v_16_q => (some (.inl v_16_q, h_5, 0, 0)))) | .inr (E_14, q_15) => (if E_14 = "java/util/NoSuchElementException" then (some (.inr ("java/util/NoSuchElementException", q_15), h_5, 0, 0)) else none)))) | some v_1_q => ((f_X1_requireElement Ev h n 1).bind fun (r_20, h_21, k_22, s_23) => (ad k_22 s_23 (match r_20 with | .inl v_29 => ((hp_o Ev h_21 o 0 5).bind fun v_32 => (match v_32 with | none => none | some v_32_q => (some (.inl v_32_q, h_21, 0, 0)))) | .inr (E_30, q_31) => (if E_30 = "java/util/NoSuchElementException" then (some (.inr ("java/util/NoSuchElementException", q_31), h_21, 0, 0)) else none))))))
abbrev rm_X1_latestDenial (k s : Nat) : Room := { frames := 7, cells := k, slots := s, locals := 109 }
set_option maxHeartbeats 4000000 in
theorem ct_X1_latestDenial (Ev : rb_E) (h : AH) (n : Nat) (o : Nat) (r : Nat ⊕ (String × Nat)) (h' : AH) (k s : Nat) (hf : f_X1_latestDenial Ev h n o = some (r, h', k, s)) : Ct Ev yX1_latestDenial (ws_ yX1_latestDenial cX1_latestDenial 1 (some (.object "RainbowOperators$Denial"))) (rm_X1_latestDenial k s) [.ref o] h n (pX (rMap (fun v => some (.ref v)) r) h' (n + k)) := by
  rw [f_X1_latestDenial] at hf
  refine Ct.of rfl (Nat.le_of_ble_eq_true rfl) fun X C hnm => ?_
  have C : Cx Ev X RX1 cX1_latestDenial 1 (some (.object "RainbowOperators$Denial")) [] := C
  show Wa Ev X (rm_X1_latestDenial k s) 1 h n 0 0 (rb_MQ Ev X (rm_X1_latestDenial k s) (pX (rMap (fun v => some (.ref v)) r) h' (n + k))) 0 [(0, .ref o)] []
  have hb : Bd (n + k) k s n 0 0 k s := ⟨rfl, Nat.le_of_eq (Nat.zero_add _), Nat.le_of_eq (Nat.zero_add _)⟩
  refine rb_aload_n C dX1_latestDenial_0 rfl 0 rfl ?_
  obtain ⟨v_1, e_2, hf⟩ := rb_bd hf
  refine rb_hO C fl_X1_139_X1 e_2 dX1_latestDenial_1 ?_
  cases v_1 with
  | none =>
    dsimp only at hf
    refine rb_ifnullN (tgt := 11) C dX1_latestDenial_4 (by decide) ?_
    refine rb_iconst (v := 0) C dX1_latestDenial_11 rfl ?_
    obtain ⟨⟨r_4, h_5, k_6, s_7⟩, e_8, hf⟩ := rb_bd hf
    obtain ⟨a_11, b_12, hf, ea_9, eb_10⟩ := ad_at hf
    rcases r_4 with v_13 | ⟨E_14, q_15⟩
    · dsimp only at hf
      refine rb_callS (As := [.int 0]) (rest := []) C mi_X1_requireElement ss_X1_202 (ct_X1_requireElement Ev h n 0 (.inl v_13) _ _ _ e_8) rfl rfl (Nat.le_of_ble_eq_true rfl) ⟨Nat.le_of_ble_eq_true rfl, Nat.le_of_ble_eq_true rfl, Bd.c1 hb ea_9, Bd.s1 hb eb_10⟩ dX1_latestDenial_12 rb_xX (rb_kX (r := none) (rb_w (kc := (0 + k_6)) (ks := (0 + s_7)) rfl rfl ?_))
      have hb := Bd.ade hb ea_9 eb_10
      refine rb_aload_n C dX1_latestDenial_15 rfl 0 rfl ?_
      obtain ⟨v_16, e_17, hf⟩ := rb_bd hf
      refine rb_hO C fl_X1_139_X1 e_17 dX1_latestDenial_16 ?_
      cases v_16 with
      | none =>
        dsimp only at hf
        cases hf
      | some v_16_q =>
        dsimp only at hf
        cases hf
        exact rb_aret C rfl (Or.inl ⟨_, rfl⟩) (Or.inr ⟨_, rfl⟩) hb.e.2.1 hb.e.2.2 dX1_latestDenial_19 ⟨rfl, rfl, hb.e.1⟩
    · dsimp only at hf
      by_cases c_18 : E_14 = "java/util/NoSuchElementException"
      · have hf := (if_pos c_18).symm.trans hf
        subst c_18
        refine rb_callS (As := [.int 0]) (rest := []) C mi_X1_requireElement ss_X1_202 (ct_X1_requireElement Ev h n 0 (.inr ("java/util/NoSuchElementException", q_15)) _ _ _ e_8) rfl rfl (Nat.le_of_ble_eq_true rfl) ⟨Nat.le_of_ble_eq_true rfl, Nat.le_of_ble_eq_true rfl, Bd.c1 hb ea_9, Bd.s1 hb eb_10⟩ dX1_latestDenial_12 (rb_xY (E := "java/util/NoSuchElementException") (rb_wX (kc := (0 + k_6)) (ks := (0 + s_7)) rfl rfl ?_)) rb_kY
        have hb := Bd.ade hb ea_9 eb_10
        cases hf
        exact rb_out C (fun _ z => absurd z List.not_mem_nil) hb.e.2.1 hb.e.2.2 ⟨rfl, rfl, hb.e.1⟩
      have hf := (if_neg c_18).symm.trans hf
      cases hf
  | some v_1_q =>
    dsimp only at hf
    refine rb_ifnull C dX1_latestDenial_4 ?_
    refine rb_iconst (v := 1) C dX1_latestDenial_7 rfl ?_
    refine rb_goto (tgt := 12) C dX1_latestDenial_8 (by decide) ?_
    obtain ⟨⟨r_20, h_21, k_22, s_23⟩, e_24, hf⟩ := rb_bd hf
    obtain ⟨a_27, b_28, hf, ea_25, eb_26⟩ := ad_at hf
    rcases r_20 with v_29 | ⟨E_30, q_31⟩
    · dsimp only at hf
      refine rb_callS (As := [.int 1]) (rest := []) C mi_X1_requireElement ss_X1_202 (ct_X1_requireElement Ev h n 1 (.inl v_29) _ _ _ e_24) rfl rfl (Nat.le_of_ble_eq_true rfl) ⟨Nat.le_of_ble_eq_true rfl, Nat.le_of_ble_eq_true rfl, Bd.c1 hb ea_25, Bd.s1 hb eb_26⟩ dX1_latestDenial_12 rb_xX (rb_kX (r := none) (rb_w (kc := (0 + k_22)) (ks := (0 + s_23)) rfl rfl ?_))
      have hb := Bd.ade hb ea_25 eb_26
      refine rb_aload_n C dX1_latestDenial_15 rfl 0 rfl ?_
      obtain ⟨v_32, e_33, hf⟩ := rb_bd hf
      refine rb_hO C fl_X1_139_X1 e_33 dX1_latestDenial_16 ?_
      cases v_32 with
      | none =>
        dsimp only at hf
        cases hf
      | some v_32_q =>
        dsimp only at hf
        cases hf
        exact rb_aret C rfl (Or.inl ⟨_, rfl⟩) (Or.inr ⟨_, rfl⟩) hb.e.2.1 hb.e.2.2 dX1_latestDenial_19 ⟨rfl, rfl, hb.e.1⟩
    · dsimp only at hf
      by_cases c_34 : E_30 = "java/util/NoSuchElementException"
      · have hf := (if_pos c_34).symm.trans hf
        subst c_34
        refine rb_callS (As := [.int 1]) (rest := []) C mi_X1_requireElement ss_X1_202 (ct_X1_requireElement Ev h n 1 (.inr ("java/util/NoSuchElementException", q_31)) _ _ _ e_24) rfl rfl (Nat.le_of_ble_eq_true rfl) ⟨Nat.le_of_ble_eq_true rfl, Nat.le_of_ble_eq_true rfl, Bd.c1 hb ea_25, Bd.s1 hb eb_26⟩ dX1_latestDenial_12 (rb_xY (E := "java/util/NoSuchElementException") (rb_wX (kc := (0 + k_22)) (ks := (0 + s_23)) rfl rfl ?_)) rb_kY
        have hb := Bd.ade hb ea_25 eb_26
        cases hf
        exact rb_out C (fun _ z => absurd z List.not_mem_nil) hb.e.2.1 hb.e.2.2 ⟨rfl, rfl, hb.e.1⟩
      have hf := (if_neg c_34).symm.trans hf
      cases hf
def f_X1_denial (Ev : rb_E) (h : AH) (n : Nat) (o : Nat) : Option ((Int32 ⊕ (String × Nat)) × AH × Nat × Nat) := ((hp_k Ev h o 0).bind fun u_1 => ((f_X1_latestDenial Ev h n o).bind fun (r_4, h_5, k_6, s_7) => (ad k_6 s_7 (match r_4 with | .inl v_13 => ((hp_i Ev h_5 v_13 4 6).bind fun v_16 => (some (.inl v_16, h_5, 0, 0))) | .inr (E_14, q_15) => (if E_14 = "java/util/NoSuchElementException" then (some (.inr ("java/util/NoSuchElementException", q_15), h_5, 0, 0)) else none)))))
abbrev rm_X1_denial (k s : Nat) : Room := { frames := 8, cells := k, slots := s, locals := 129 }
set_option maxHeartbeats 4000000 in
theorem ct_X1_denial (Ev : rb_E) (h : AH) (n : Nat) (o : Nat) (r : Int32 ⊕ (String × Nat)) (h' : AH) (k s : Nat) (hf : f_X1_denial Ev h n o = some (r, h', k, s)) : Ct Ev yX1_denial (ws_ yX1_denial cX1_denial 1 (some .int)) (rm_X1_denial k s) [.ref o] h n (pX (rMap (fun v => some (.int v)) r) h' (n + k)) := by
  rw [f_X1_denial] at hf
  refine Ct.of rfl (Nat.le_of_ble_eq_true rfl) fun X C hnm => ?_
  have C : Cx Ev X RX1 cX1_denial 1 (some .int) [] := C
  show Wa Ev X (rm_X1_denial k s) 1 h n 0 0 (rb_MQ Ev X (rm_X1_denial k s) (pX (rMap (fun v => some (.int v)) r) h' (n + k))) 0 [(0, .ref o)] []
  have hb : Bd (n + k) k s n 0 0 k s := ⟨rfl, Nat.le_of_eq (Nat.zero_add _), Nat.le_of_eq (Nat.zero_add _)⟩
  refine rb_aload_n C dX1_denial_0 rfl 0 rfl ?_
  obtain ⟨u_1, e_2, hf⟩ := rb_bd hf
  obtain ⟨⟨r_4, h_5, k_6, s_7⟩, e_8, hf⟩ := rb_bd hf
  obtain ⟨a_11, b_12, hf, ea_9, eb_10⟩ := ad_at hf
  rcases r_4 with v_13 | ⟨E_14, q_15⟩
  · dsimp only at hf
    refine rb_callV (As := []) (rest := []) C mi_X1_latestDenial sv_X1_391 (hp_k_isC C.pf e_2 ck_X1) (ct_X1_latestDenial Ev h n o (.inl v_13) _ _ _ e_8) rfl rfl (Nat.le_of_ble_eq_true rfl) ⟨Nat.le_of_ble_eq_true rfl, Nat.le_of_ble_eq_true rfl, Bd.c1 hb ea_9, Bd.s1 hb eb_10⟩ dX1_denial_1 rb_xX (rb_kX (r := some (.ref v_13)) (rb_w (kc := (0 + k_6)) (ks := (0 + s_7)) rfl rfl ?_))
    have hb := Bd.ade hb ea_9 eb_10
    obtain ⟨v_16, e_17, hf⟩ := rb_bd hf
    refine rb_hI C fl_X1_395_X6 e_17 dX1_denial_4 ?_
    cases hf
    exact rb_iret C rfl rfl hb.e.2.1 hb.e.2.2 dX1_denial_7 ⟨rfl, rfl, hb.e.1⟩
  · dsimp only at hf
    by_cases c_18 : E_14 = "java/util/NoSuchElementException"
    · have hf := (if_pos c_18).symm.trans hf
      subst c_18
      refine rb_callV (As := []) (rest := []) C mi_X1_latestDenial sv_X1_391 (hp_k_isC C.pf e_2 ck_X1) (ct_X1_latestDenial Ev h n o (.inr ("java/util/NoSuchElementException", q_15)) _ _ _ e_8) rfl rfl (Nat.le_of_ble_eq_true rfl) ⟨Nat.le_of_ble_eq_true rfl, Nat.le_of_ble_eq_true rfl, Bd.c1 hb ea_9, Bd.s1 hb eb_10⟩ dX1_denial_1 (rb_xY (E := "java/util/NoSuchElementException") (rb_wX (kc := (0 + k_6)) (ks := (0 + s_7)) rfl rfl ?_)) rb_kY
      have hb := Bd.ade hb ea_9 eb_10
      cases hf
      exact rb_out C (fun _ z => absurd z List.not_mem_nil) hb.e.2.1 hb.e.2.2 ⟨rfl, rfl, hb.e.1⟩
    have hf := (if_neg c_18).symm.trans hf
    cases hf
def f_X1_denialDetail (Ev : rb_E) (h : AH) (n : Nat) (o : Nat) : Option ((Int32 ⊕ (String × Nat)) × AH × Nat × Nat) := ((hp_k Ev h o 0).bind fun u_1 => ((f_X1_latestDenial Ev h n o).bind fun (r_4, h_5, k_6, s_7) => (ad k_6 s_7 (match r_4 with | .inl v_13 => ((hp_i Ev h_5 v_13 4 7).bind fun v_16 => (some (.inl v_16, h_5, 0, 0))) | .inr (E_14, q_15) => (if E_14 = "java/util/NoSuchElementException" then (some (.inr ("java/util/NoSuchElementException", q_15), h_5, 0, 0)) else none)))))
abbrev rm_X1_denialDetail (k s : Nat) : Room := { frames := 8, cells := k, slots := s, locals := 129 }
set_option maxHeartbeats 4000000 in
theorem ct_X1_denialDetail (Ev : rb_E) (h : AH) (n : Nat) (o : Nat) (r : Int32 ⊕ (String × Nat)) (h' : AH) (k s : Nat) (hf : f_X1_denialDetail Ev h n o = some (r, h', k, s)) : Ct Ev yX1_denialDetail (ws_ yX1_denialDetail cX1_denialDetail 1 (some .int)) (rm_X1_denialDetail k s) [.ref o] h n (pX (rMap (fun v => some (.int v)) r) h' (n + k)) := by
  rw [f_X1_denialDetail] at hf
  refine Ct.of rfl (Nat.le_of_ble_eq_true rfl) fun X C hnm => ?_
  have C : Cx Ev X RX1 cX1_denialDetail 1 (some .int) [] := C
  show Wa Ev X (rm_X1_denialDetail k s) 1 h n 0 0 (rb_MQ Ev X (rm_X1_denialDetail k s) (pX (rMap (fun v => some (.int v)) r) h' (n + k))) 0 [(0, .ref o)] []
  have hb : Bd (n + k) k s n 0 0 k s := ⟨rfl, Nat.le_of_eq (Nat.zero_add _), Nat.le_of_eq (Nat.zero_add _)⟩
  refine rb_aload_n C dX1_denialDetail_0 rfl 0 rfl ?_
  obtain ⟨u_1, e_2, hf⟩ := rb_bd hf
  obtain ⟨⟨r_4, h_5, k_6, s_7⟩, e_8, hf⟩ := rb_bd hf
  obtain ⟨a_11, b_12, hf, ea_9, eb_10⟩ := ad_at hf
  rcases r_4 with v_13 | ⟨E_14, q_15⟩
  · dsimp only at hf
    refine rb_callV (As := []) (rest := []) C mi_X1_latestDenial sv_X1_391 (hp_k_isC C.pf e_2 ck_X1) (ct_X1_latestDenial Ev h n o (.inl v_13) _ _ _ e_8) rfl rfl (Nat.le_of_ble_eq_true rfl) ⟨Nat.le_of_ble_eq_true rfl, Nat.le_of_ble_eq_true rfl, Bd.c1 hb ea_9, Bd.s1 hb eb_10⟩ dX1_denialDetail_1 rb_xX (rb_kX (r := some (.ref v_13)) (rb_w (kc := (0 + k_6)) (ks := (0 + s_7)) rfl rfl ?_))
    have hb := Bd.ade hb ea_9 eb_10
    obtain ⟨v_16, e_17, hf⟩ := rb_bd hf
    refine rb_hI C fl_X1_398_X6 e_17 dX1_denialDetail_4 ?_
    cases hf
    exact rb_iret C rfl rfl hb.e.2.1 hb.e.2.2 dX1_denialDetail_7 ⟨rfl, rfl, hb.e.1⟩
  · dsimp only at hf
    by_cases c_18 : E_14 = "java/util/NoSuchElementException"
    · have hf := (if_pos c_18).symm.trans hf
      subst c_18
      refine rb_callV (As := []) (rest := []) C mi_X1_latestDenial sv_X1_391 (hp_k_isC C.pf e_2 ck_X1) (ct_X1_latestDenial Ev h n o (.inr ("java/util/NoSuchElementException", q_15)) _ _ _ e_8) rfl rfl (Nat.le_of_ble_eq_true rfl) ⟨Nat.le_of_ble_eq_true rfl, Nat.le_of_ble_eq_true rfl, Bd.c1 hb ea_9, Bd.s1 hb eb_10⟩ dX1_denialDetail_1 (rb_xY (E := "java/util/NoSuchElementException") (rb_wX (kc := (0 + k_6)) (ks := (0 + s_7)) rfl rfl ?_)) rb_kY
      have hb := Bd.ade hb ea_9 eb_10
      cases hf
      exact rb_out C (fun _ z => absurd z List.not_mem_nil) hb.e.2.1 hb.e.2.2 ⟨rfl, rfl, hb.e.1⟩
    have hf := (if_neg c_18).symm.trans hf
    cases hf
def f_X6_behind (Ev : rb_E) (h : AH) (n : Nat) (o : Nat) : Option (Nat × AH × Nat × Nat) := none
abbrev rm_X6_behind (k s : Nat) : Room := { frames := 0, cells := k, slots := s, locals := 0 }
set_option maxHeartbeats 4000000 in
theorem ct_X6_behind (Ev : rb_E) (h : AH) (n : Nat) (o : Nat) (r : Nat) (h' : AH) (k s : Nat) (hf : f_X6_behind Ev h n o = some (r, h', k, s)) : Ct Ev yX6_behind (ws_ yX6_behind cX6_behind 3 (some (.object "java/util/Optional"))) (rm_X6_behind k s) [.ref o] h n (pX (.inl (some (.ref r))) h' (n + k)) := by
  rw [f_X6_behind] at hf
  refine Ct.of rfl (Nat.le_of_ble_eq_true rfl) fun X C hnm => ?_
  have C : Cx Ev X RX6 cX6_behind 3 (some (.object "java/util/Optional")) [] := C
  show Wa Ev X (rm_X6_behind k s) 3 h n 0 0 (rb_MQ Ev X (rm_X6_behind k s) (pX (.inl (some (.ref r))) h' (n + k))) 0 [(0, .ref o)] []
  have hb : Bd (n + k) k s n 0 0 k s := ⟨rfl, Nat.le_of_eq (Nat.zero_add _), Nat.le_of_eq (Nat.zero_add _)⟩
  refine rb_aload_n C dX6_behind_0 rfl 0 rfl ?_
  cases hf
def f_X1_denialCause (Ev : rb_E) (h : AH) (n : Nat) (o : Nat) : Option ((Int32 ⊕ (String × Nat)) × AH × Nat × Nat) := ((hp_k Ev h o 0).bind fun u_1 => ((f_X1_latestDenial Ev h n o).bind fun (r_4, h_5, k_6, s_7) => (ad k_6 s_7 (match r_4 with | .inl v_13 => ((hp_k Ev h_5 v_13 4).bind fun u_16 => ((f_X6_behind Ev h_5 (n + k_6) v_13).bind fun (r_19, h_20, k_21, s_22) => (ad k_21 s_22 ((hp_k Ev h_20 r_19 28).bind fun u_28 => ((f_J28_isPresent Ev h_20 r_19).bind fun v_31 => ((f_X1_requireElement Ev h_20 ((n + k_6) + k_21) v_31).bind fun (r_34, h_35, k_36, s_37) => (ad k_36 s_37 (match r_34 with | .inl v_43 => ((hp_k Ev h_35 r_19 28).bind fun u_46 => ((f_J28_get Ev h_35 r_19).bind fun v_49 => ((hp_ca Ev h_35 v_49 [4]).bind fun u_51 => ((hp_i Ev h_35 v_49 4 6).bind fun v_53 => (some (.inl v_53, h_35, 0, 0)))))) | .inr (E_44, q_45) => (if E_44 = "java/util/NoSuchElementException" then (some (.inr ("java/util/NoSuchElementException", q_45), h_35, 0, 0)) else none))))))))) | .inr (E_14, q_15) => (if E_14 = "java/util/NoSuchElementException" then (some (.inr ("java/util/NoSuchElementException", q_15), h_5, 0, 0)) else none)))))
abbrev rm_X1_denialCause (k s : Nat) : Room := { frames := 8, cells := k, slots := s, locals := 129 }
set_option maxHeartbeats 4000000 in
theorem ct_X1_denialCause (Ev : rb_E) (h : AH) (n : Nat) (o : Nat) (r : Int32 ⊕ (String × Nat)) (h' : AH) (k s : Nat) (hf : f_X1_denialCause Ev h n o = some (r, h', k, s)) : Ct Ev yX1_denialCause (ws_ yX1_denialCause cX1_denialCause 2 (some .int)) (rm_X1_denialCause k s) [.ref o] h n (pX (rMap (fun v => some (.int v)) r) h' (n + k)) := by
  rw [f_X1_denialCause] at hf
  refine Ct.of rfl (Nat.le_of_ble_eq_true rfl) fun X C hnm => ?_
  have C : Cx Ev X RX1 cX1_denialCause 2 (some .int) [] := C
  show Wa Ev X (rm_X1_denialCause k s) 2 h n 0 0 (rb_MQ Ev X (rm_X1_denialCause k s) (pX (rMap (fun v => some (.int v)) r) h' (n + k))) 0 [(0, .ref o)] []
  have hb : Bd (n + k) k s n 0 0 k s := ⟨rfl, Nat.le_of_eq (Nat.zero_add _), Nat.le_of_eq (Nat.zero_add _)⟩
  refine rb_aload_n C dX1_denialCause_0 rfl 0 rfl ?_
  obtain ⟨u_1, e_2, hf⟩ := rb_bd hf
  obtain ⟨⟨r_4, h_5, k_6, s_7⟩, e_8, hf⟩ := rb_bd hf
  obtain ⟨a_11, b_12, hf, ea_9, eb_10⟩ := ad_at hf
  rcases r_4 with v_13 | ⟨E_14, q_15⟩
  · dsimp only at hf
    refine rb_callV (As := []) (rest := []) C mi_X1_latestDenial sv_X1_391 (hp_k_isC C.pf e_2 ck_X1) (ct_X1_latestDenial Ev h n o (.inl v_13) _ _ _ e_8) rfl rfl (Nat.le_of_ble_eq_true rfl) ⟨Nat.le_of_ble_eq_true rfl, Nat.le_of_ble_eq_true rfl, Bd.c1 hb ea_9, Bd.s1 hb eb_10⟩ dX1_denialCause_1 rb_xX (rb_kX (r := some (.ref v_13)) (rb_w (kc := (0 + k_6)) (ks := (0 + s_7)) rfl rfl ?_))
    have hb := Bd.ade hb ea_9 eb_10
    obtain ⟨u_16, e_17, hf⟩ := rb_bd hf
    obtain ⟨⟨r_19, h_20, k_21, s_22⟩, e_23, hf⟩ := rb_bd hf
    obtain ⟨a_26, b_27, hf, ea_24, eb_25⟩ := ad_at hf
    refine rb_callV (As := []) (rest := []) C mi_X6_behind sv_X1_401 (hp_k_isC C.pf e_17 ck_X6) (ct_X6_behind Ev h_5 (n + k_6) v_13 r_19 _ _ _ e_23) rfl rfl (Nat.le_of_ble_eq_true rfl) ⟨Nat.le_of_ble_eq_true rfl, Nat.le_of_ble_eq_true rfl, Bd.c1 hb ea_24, Bd.s1 hb eb_25⟩ dX1_denialCause_4 rb_xX (rb_kX (rb_w (kc := ((0 + k_6) + k_21)) (ks := ((0 + s_7) + s_22)) rfl rfl ?_))
    have hb := Bd.ade hb ea_24 eb_25
    refine rb_astore_n (lv' := [(1, .ref r_19), (0, .ref o)]) C dX1_denialCause_7 rfl (by decide) rfl ?_
    refine rb_aload_n C dX1_denialCause_8 rfl 0 rfl ?_
    obtain ⟨u_28, e_29, hf⟩ := rb_bd hf
    obtain ⟨v_31, e_32, hf⟩ := rb_bd hf
    refine rb_callV (As := []) (rest := []) C mi_J28_isPresent sv_X1_380 (hp_k_isC C.pf e_29 ck_J28) (ct_J28_isPresent Ev h_20 ((n + k_6) + k_21) r_19 _ e_32) rfl rfl (Nat.le_of_ble_eq_true rfl) ⟨Nat.le_of_ble_eq_true rfl, Nat.le_of_ble_eq_true rfl, hb.c0, hb.s0⟩ dX1_denialCause_9 rb_xXi (rb_kXi fun hn_30 => (rb_w (kc := ((0 + k_6) + k_21)) (ks := ((0 + s_7) + s_22)) rfl rfl ?_))
    obtain ⟨⟨r_34, h_35, k_36, s_37⟩, e_38, hf⟩ := rb_bd hf
    obtain ⟨a_41, b_42, hf, ea_39, eb_40⟩ := ad_at hf
    rcases r_34 with v_43 | ⟨E_44, q_45⟩
    · dsimp only at hf
      refine rb_callS (As := [.int v_31]) (rest := []) C mi_X1_requireElement ss_X1_202 (ct_X1_requireElement Ev h_20 ((n + k_6) + k_21) v_31 (.inl v_43) _ _ _ e_38) rfl rfl (Nat.le_of_ble_eq_true rfl) ⟨Nat.le_of_ble_eq_true rfl, Nat.le_of_ble_eq_true rfl, Bd.c1 hb ea_39, Bd.s1 hb eb_40⟩ dX1_denialCause_12 rb_xX (rb_kX (r := none) (rb_w (kc := (((0 + k_6) + k_21) + k_36)) (ks := (((0 + s_7) + s_22) + s_37)) rfl rfl ?_))
      have hb := Bd.ade hb ea_39 eb_40
      refine rb_aload_n C dX1_denialCause_15 rfl 0 rfl ?_
      obtain ⟨u_46, e_47, hf⟩ := rb_bd hf
      obtain ⟨v_49, e_50, hf⟩ := rb_bd hf
      refine rb_callV (As := []) (rest := []) C mi_J28_get sv_X1_383 (hp_k_isC C.pf e_47 ck_J28) (ct_J28_get Ev h_35 (((n + k_6) + k_21) + k_36) r_19 _ e_50) rfl rfl (Nat.le_of_ble_eq_true rfl) ⟨Nat.le_of_ble_eq_true rfl, Nat.le_of_ble_eq_true rfl, hb.c0, hb.s0⟩ dX1_denialCause_16 rb_xX (rb_kX (rb_w (kc := (((0 + k_6) + k_21) + k_36)) (ks := (((0 + s_7) + s_22) + s_37)) rfl rfl ?_))
      obtain ⟨u_51, e_52, hf⟩ := rb_bd hf
      refine rb_hca C q261 okp_RainbowOperators_Denial e_52 dX1_denialCause_19 ?_
      obtain ⟨v_53, e_54, hf⟩ := rb_bd hf
      refine rb_hI C fl_X1_395_X6 e_54 dX1_denialCause_22 ?_
      cases hf
      exact rb_iret C rfl rfl hb.e.2.1 hb.e.2.2 dX1_denialCause_25 ⟨rfl, rfl, hb.e.1⟩
    · dsimp only at hf
      by_cases c_55 : E_44 = "java/util/NoSuchElementException"
      · have hf := (if_pos c_55).symm.trans hf
        subst c_55
        refine rb_callS (As := [.int v_31]) (rest := []) C mi_X1_requireElement ss_X1_202 (ct_X1_requireElement Ev h_20 ((n + k_6) + k_21) v_31 (.inr ("java/util/NoSuchElementException", q_45)) _ _ _ e_38) rfl rfl (Nat.le_of_ble_eq_true rfl) ⟨Nat.le_of_ble_eq_true rfl, Nat.le_of_ble_eq_true rfl, Bd.c1 hb ea_39, Bd.s1 hb eb_40⟩ dX1_denialCause_12 (rb_xY (E := "java/util/NoSuchElementException") (rb_wX (kc := (((0 + k_6) + k_21) + k_36)) (ks := (((0 + s_7) + s_22) + s_37)) rfl rfl ?_)) rb_kY
        have hb := Bd.ade hb ea_39 eb_40
        cases hf
        exact rb_out C (fun _ z => absurd z List.not_mem_nil) hb.e.2.1 hb.e.2.2 ⟨rfl, rfl, hb.e.1⟩
      have hf := (if_neg c_55).symm.trans hf
      cases hf
  · dsimp only at hf
    by_cases c_56 : E_14 = "java/util/NoSuchElementException"
    · have hf := (if_pos c_56).symm.trans hf
      subst c_56
      refine rb_callV (As := []) (rest := []) C mi_X1_latestDenial sv_X1_391 (hp_k_isC C.pf e_2 ck_X1) (ct_X1_latestDenial Ev h n o (.inr ("java/util/NoSuchElementException", q_15)) _ _ _ e_8) rfl rfl (Nat.le_of_ble_eq_true rfl) ⟨Nat.le_of_ble_eq_true rfl, Nat.le_of_ble_eq_true rfl, Bd.c1 hb ea_9, Bd.s1 hb eb_10⟩ dX1_denialCause_1 (rb_xY (E := "java/util/NoSuchElementException") (rb_wX (kc := (0 + k_6)) (ks := (0 + s_7)) rfl rfl ?_)) rb_kY
      have hb := Bd.ade hb ea_9 eb_10
      cases hf
      exact rb_out C (fun _ z => absurd z List.not_mem_nil) hb.e.2.1 hb.e.2.2 ⟨rfl, rfl, hb.e.1⟩
    have hf := (if_neg c_56).symm.trans hf
    cases hf
def f_X1_undo_j15_9 (Ev : rb_E) (o : Nat) (h : AH) (n : Nat) (w0_j15_9 : Int32) : Option ((Int32 ⊕ (String × Nat)) × AH × Nat × Nat) := ((f_X1_requireState Ev h n w0_j15_9).bind fun (r_11, h_12, k_13, s_14) => (ad k_13 s_14 (match r_11 with | .inl v_20 => ((hp_p Ev h_12 o 0 1).bind fun v_23 => ((hp_k Ev h_12 v_23 15).bind fun u_25 => ((f_J6_pop Ev h_12 (n + k_13) v_23).bind fun (r_28, h_29, k_30, s_31) => (ad k_30 s_31 ((hp_ca Ev h_29 r_28 [1]).bind fun u_37 => ((hp_put h_29 o 0 0 (.ref r_28)).bind fun h_39 => ((hp_p Ev h_39 o 0 1).bind fun v_41 => ((hp_k Ev h_39 v_41 15).bind fun u_43 => ((f_J6_size Ev h_39 v_41).bind fun v_46 => (some (.inl v_46, h_39, 0, 0))))))))))) | .inr (E_21, q_22) => (if E_21 = "java/lang/IllegalStateException" then (some (.inr ("java/lang/IllegalStateException", q_22), h_12, 0, 0)) else none))))
def f_X1_undo (Ev : rb_E) (h : AH) (n : Nat) (o : Nat) : Option ((Int32 ⊕ (String × Nat)) × AH × Nat × Nat) := ((hp_p Ev h o 0 1).bind fun v_1 => ((hp_k Ev h v_1 15).bind fun u_3 => ((f_J6_isEmpty Ev h v_1).bind fun v_6 => (if v_6 = 0 then (f_X1_undo_j15_9 Ev o h n 1) else (f_X1_undo_j15_9 Ev o h n 0)))))
abbrev rm_X1_undo (k s : Nat) : Room := { frames := 7, cells := k, slots := s, locals := 109 }
set_option maxHeartbeats 4000000 in
theorem ct_X1_undo (Ev : rb_E) (h : AH) (n : Nat) (o : Nat) (r : Int32 ⊕ (String × Nat)) (h' : AH) (k s : Nat) (hf : f_X1_undo Ev h n o = some (r, h', k, s)) : Ct Ev yX1_undo (ws_ yX1_undo cX1_undo 1 (some .int)) (rm_X1_undo k s) [.ref o] h n (pX (rMap (fun v => some (.int v)) r) h' (n + k)) := by
  rw [f_X1_undo] at hf
  refine Ct.of rfl (Nat.le_of_ble_eq_true rfl) fun X C hnm => ?_
  have C : Cx Ev X RX1 cX1_undo 1 (some .int) [] := C
  show Wa Ev X (rm_X1_undo k s) 1 h n 0 0 (rb_MQ Ev X (rm_X1_undo k s) (pX (rMap (fun v => some (.int v)) r) h' (n + k))) 0 [(0, .ref o)] []
  have hb : Bd (n + k) k s n 0 0 k s := ⟨rfl, Nat.le_of_eq (Nat.zero_add _), Nat.le_of_eq (Nat.zero_add _)⟩
  refine rb_aload_n C dX1_undo_0 rfl 0 rfl ?_
  obtain ⟨v_1, e_2, hf⟩ := rb_bd hf
  refine rb_hP C fl_X1_111_X1 e_2 dX1_undo_1 ?_
  obtain ⟨u_3, e_4, hf⟩ := rb_bd hf
  obtain ⟨v_6, e_7, hf⟩ := rb_bd hf
  refine rb_callV (As := []) (rest := []) C mi_J6_isEmpty sv_X1_403 (hp_k_isC C.pf e_4 ck_J6) (ct_J6_isEmpty Ev h n v_1 _ e_7) rfl rfl (Nat.le_of_ble_eq_true rfl) ⟨Nat.le_of_ble_eq_true rfl, Nat.le_of_ble_eq_true rfl, hb.c0, hb.s0⟩ dX1_undo_4 rb_xXi (rb_kXi fun hn_5 => (rb_w (kc := 0) (ks := 0) rfl rfl ?_))
  have J_j15_9 : ∀ (w0_j15_9 : Int32) (kc_j15_9 ks_j15_9 a_ b_ : Nat), f_X1_undo_j15_9 Ev o h n w0_j15_9 = some (r, h', a_, b_) → Bd (n + k) k s n kc_j15_9 ks_j15_9 a_ b_ → Wa Ev X (rm_X1_undo k s) 1 h n kc_j15_9 ks_j15_9 (rb_MQ Ev X (rm_X1_undo k s) (pX (rMap (fun v => some (.int v)) r) h' (n + k))) 15 [(0, .ref o)] [.int w0_j15_9] := by
    intro w0_j15_9 kc_j15_9 ks_j15_9 a_ b_ hf hb
    rw [f_X1_undo_j15_9] at hf
    obtain ⟨⟨r_11, h_12, k_13, s_14⟩, e_15, hf⟩ := rb_bd hf
    obtain ⟨a_18, b_19, hf, ea_16, eb_17⟩ := ad_at hf
    rcases r_11 with v_20 | ⟨E_21, q_22⟩
    · dsimp only at hf
      refine rb_callS (As := [.int w0_j15_9]) (rest := []) C mi_X1_requireState ss_X1_327 (ct_X1_requireState Ev h n w0_j15_9 (.inl v_20) _ _ _ e_15) rfl rfl (Nat.le_of_ble_eq_true rfl) ⟨Nat.le_of_ble_eq_true rfl, Nat.le_of_ble_eq_true rfl, Bd.c1 hb ea_16, Bd.s1 hb eb_17⟩ dX1_undo_15 rb_xX (rb_kX (r := none) (rb_w (kc := (kc_j15_9 + k_13)) (ks := (ks_j15_9 + s_14)) rfl rfl ?_))
      have hb := Bd.ade hb ea_16 eb_17
      refine rb_aload_n C dX1_undo_18 rfl 0 rfl ?_
      refine rb_aload_n C dX1_undo_19 rfl 0 rfl ?_
      obtain ⟨v_23, e_24, hf⟩ := rb_bd hf
      refine rb_hP C fl_X1_111_X1 e_24 dX1_undo_20 ?_
      obtain ⟨u_25, e_26, hf⟩ := rb_bd hf
      obtain ⟨⟨r_28, h_29, k_30, s_31⟩, e_32, hf⟩ := rb_bd hf
      obtain ⟨a_35, b_36, hf, ea_33, eb_34⟩ := ad_at hf
      refine rb_callV (As := []) (rest := [.ref o]) C mi_J6_pop sv_X1_406 (hp_k_isC C.pf e_26 ck_J6) (ct_J6_pop Ev h_12 (n + k_13) v_23 r_28 _ _ _ e_32) rfl rfl (Nat.le_of_ble_eq_true rfl) ⟨Nat.le_of_ble_eq_true rfl, Nat.le_of_ble_eq_true rfl, Bd.c1 hb ea_33, Bd.s1 hb eb_34⟩ dX1_undo_23 rb_xX (rb_kX (rb_w (kc := ((kc_j15_9 + k_13) + k_30)) (ks := ((ks_j15_9 + s_14) + s_31)) rfl rfl ?_))
      have hb := Bd.ade hb ea_33 eb_34
      obtain ⟨u_37, e_38, hf⟩ := rb_bd hf
      refine rb_hca C q125 okp_RainbowOperators_Sheet e_38 dX1_undo_26 ?_
      obtain ⟨h_39, e_40, hf⟩ := rb_bd hf
      refine rb_hput C fw_X1_104_X1 e_40 rfl rfl dX1_undo_29 ?_
      refine rb_aload_n C dX1_undo_32 rfl 0 rfl ?_
      obtain ⟨v_41, e_42, hf⟩ := rb_bd hf
      refine rb_hP C fl_X1_111_X1 e_42 dX1_undo_33 ?_
      obtain ⟨u_43, e_44, hf⟩ := rb_bd hf
      obtain ⟨v_46, e_47, hf⟩ := rb_bd hf
      refine rb_callV (As := []) (rest := []) C mi_J6_size sv_X1_127 (hp_k_isC C.pf e_44 ck_J6) (ct_J6_size Ev h_39 ((n + k_13) + k_30) v_41 _ e_47) rfl rfl (Nat.le_of_ble_eq_true rfl) ⟨Nat.le_of_ble_eq_true rfl, Nat.le_of_ble_eq_true rfl, hb.c0, hb.s0⟩ dX1_undo_36 rb_xXi (rb_kXi fun hn_45 => (rb_w (kc := ((kc_j15_9 + k_13) + k_30)) (ks := ((ks_j15_9 + s_14) + s_31)) rfl rfl ?_))
      cases hf
      exact rb_iret C rfl rfl hb.e.2.1 hb.e.2.2 dX1_undo_39 ⟨rfl, rfl, hb.e.1⟩
    · dsimp only at hf
      by_cases c_48 : E_21 = "java/lang/IllegalStateException"
      · have hf := (if_pos c_48).symm.trans hf
        subst c_48
        refine rb_callS (As := [.int w0_j15_9]) (rest := []) C mi_X1_requireState ss_X1_327 (ct_X1_requireState Ev h n w0_j15_9 (.inr ("java/lang/IllegalStateException", q_22)) _ _ _ e_15) rfl rfl (Nat.le_of_ble_eq_true rfl) ⟨Nat.le_of_ble_eq_true rfl, Nat.le_of_ble_eq_true rfl, Bd.c1 hb ea_16, Bd.s1 hb eb_17⟩ dX1_undo_15 (rb_xY (E := "java/lang/IllegalStateException") (rb_wX (kc := (kc_j15_9 + k_13)) (ks := (ks_j15_9 + s_14)) rfl rfl ?_)) rb_kY
        have hb := Bd.ade hb ea_16 eb_17
        cases hf
        exact rb_out C (fun _ z => absurd z List.not_mem_nil) hb.e.2.1 hb.e.2.2 ⟨rfl, rfl, hb.e.1⟩
      have hf := (if_neg c_48).symm.trans hf
      cases hf
  refine rb_if_ne (tgt := 14) C dX1_undo_7 (by decide) (fun c_8 => ?_) (fun c_8 => ?_)
  · have hf := (if_neg c_8).symm.trans hf
    refine rb_iconst (v := 0) C dX1_undo_14 rfl ?_
    exact J_j15_9 0  _ _ _ _ hf hb
  · have hf := (if_pos c_8).symm.trans hf
    refine rb_iconst (v := 1) C dX1_undo_10 rfl ?_
    refine rb_goto (tgt := 15) C dX1_undo_11 (by decide) ?_
    exact J_j15_9 1  _ _ _ _ hf hb
def f_J6_circularClear_l12_3 (Ev : rb_E) (x0 : Nat) (x2 : Int32) : Nat → Int32 → Int32 → AH → Nat → Option (Unit × AH × Nat × Nat)
  | 0, _, _, _, _ => none
  | k_l12_3 + 1, y1_l12_3, y3_l12_3, h_l12_3, n_l12_3 => (if y3_l12_3 ≤ y1_l12_3 then (if y3_l12_3 = x2 then (some ((), h_l12_3, 0, 0)) else ((f_J6_circularClear_l12_3 Ev x0 x2 k_l12_3) 0 x2 h_l12_3 n_l12_3)) else ((hp_as Ev h_l12_3 6 x0 y1_l12_3 none).bind fun h_6 => ((f_J6_circularClear_l12_3 Ev x0 x2 k_l12_3) (y1_l12_3 + 1) y3_l12_3 h_6 n_l12_3)))
def f_J6_circularClear_j11_2 (Ev : rb_E) (x0 : Nat) (x1 : Int32) (x2 : Int32) (h : AH) (n : Nat) (w0_j11_2 : Int32) : Option (Unit × AH × Nat × Nat) := (f_J6_circularClear_l12_3 Ev x0 x2 4096 x1 w0_j11_2 h n)
def f_J6_circularClear (Ev : rb_E) (h : AH) (n : Nat) (x0 : Nat) (x1 : Int32) (x2 : Int32) : Option (Unit × AH × Nat × Nat) := (if x2 < x1 then ((hp_len Ev h x0 6).bind fun v_8 => (f_J6_circularClear_j11_2 Ev x0 x1 x2 h n (nI v_8))) else (f_J6_circularClear_j11_2 Ev x0 x1 x2 h n x2))
abbrev rm_J6_circularClear (k s : Nat) : Room := { frames := 0, cells := k, slots := s, locals := 0 }
set_option maxHeartbeats 4000000 in
theorem ct_J6_circularClear (Ev : rb_E) (h : AH) (n : Nat) (x0 : Nat) (x1 : Int32) (x2 : Int32) (r : Unit) (h' : AH) (k s : Nat) (hf : f_J6_circularClear Ev h n x0 x1 x2 = some (r, h', k, s)) : Ct Ev yJ6_circularClear (ws_ yJ6_circularClear cJ6_circularClear 4 none) (rm_J6_circularClear k s) [.ref x0, .int x1, .int x2] h n (pX (.inl (none)) h' (n + k)) := by
  rw [f_J6_circularClear] at hf
  refine Ct.of rfl (Nat.le_of_ble_eq_true rfl) fun X C hnm => ?_
  have C : Cx Ev X RJ6 cJ6_circularClear 4 none [] := C
  show Wa Ev X (rm_J6_circularClear k s) 4 h n 0 0 (rb_MQ Ev X (rm_J6_circularClear k s) (pX (.inl (none)) h' (n + k))) 0 [(0, .ref x0), (1, .int x1), (2, .int x2)] []
  have hb : Bd (n + k) k s n 0 0 k s := ⟨rfl, Nat.le_of_eq (Nat.zero_add _), Nat.le_of_eq (Nat.zero_add _)⟩
  refine rb_iload_n C dJ6_circularClear_0 rfl 1 rfl ?_
  refine rb_iload_n C dJ6_circularClear_1 rfl 2 rfl ?_
  have J_j11_2 : ∀ (w0_j11_2 : Int32) (kc_j11_2 ks_j11_2 a_ b_ : Nat), f_J6_circularClear_j11_2 Ev x0 x1 x2 h n w0_j11_2 = some (r, h', a_, b_) → Bd (n + k) k s n kc_j11_2 ks_j11_2 a_ b_ → Wa Ev X (rm_J6_circularClear k s) 4 h n kc_j11_2 ks_j11_2 (rb_MQ Ev X (rm_J6_circularClear k s) (pX (.inl (none)) h' (n + k))) 11 [(0, .ref x0), (1, .int x1), (2, .int x2)] [.int w0_j11_2] := by
    intro w0_j11_2 kc_j11_2 ks_j11_2 a_ b_ hf hb
    rw [f_J6_circularClear_j11_2] at hf
    refine rb_istore_n (lv' := [(3, .int w0_j11_2), (0, .ref x0), (1, .int x1), (2, .int x2)]) C dJ6_circularClear_11 rfl (by decide) rfl ?_
    have L_l12_3 : ∀ (k_l12_3 : Nat) (y1_l12_3 : Int32) (y3_l12_3 : Int32) (h_l12_3 : AH) (n_l12_3 kc_l12_3 ks_l12_3 a_ b_ : Nat), f_J6_circularClear_l12_3 Ev x0 x2 k_l12_3 y1_l12_3 y3_l12_3 h_l12_3 n_l12_3 = some (r, h', a_, b_) → Bd (n + k) k s n_l12_3 kc_l12_3 ks_l12_3 a_ b_ → Wa Ev X (rm_J6_circularClear k s) 4 h_l12_3 n_l12_3 kc_l12_3 ks_l12_3 (rb_MQ Ev X (rm_J6_circularClear k s) (pX (.inl (none)) h' (n + k))) 12 [(0, .ref x0), (1, .int y1_l12_3), (2, .int x2), (3, .int y3_l12_3)] [] := by
      intro k_l12_3
      induction k_l12_3 with
      | zero => intro y1_l12_3 y3_l12_3 h_l12_3 n_l12_3 kc_l12_3 ks_l12_3 a_ b_ hf hb; cases hf
      | succ k_l12_3 ih_l12_3 =>
        intro y1_l12_3 y3_l12_3 h_l12_3 n_l12_3 kc_l12_3 ks_l12_3 a_ b_ hf hb
        rw [f_J6_circularClear_l12_3] at hf
        refine rb_iload_n C dJ6_circularClear_12 rfl 1 rfl ?_
        refine rb_iload_n C dJ6_circularClear_13 rfl 3 rfl ?_
        refine rb_icmp_ge (tgt := 27) C dJ6_circularClear_14 (by decide) (fun c_4 => ?_) (fun c_4 => ?_)
        · have hf := (if_pos c_4).symm.trans hf
          refine rb_iload_n C dJ6_circularClear_27 rfl 3 rfl ?_
          refine rb_iload_n C dJ6_circularClear_28 rfl 2 rfl ?_
          refine rb_icmp_ne (tgt := 35) C dJ6_circularClear_29 (by decide) (fun c_5 => ?_) (fun c_5 => ?_)
          · have hf := (if_neg c_5).symm.trans hf
            refine rb_iconst (v := 0) C dJ6_circularClear_35 rfl ?_
            refine rb_istore_n (lv' := [(1, .int 0), (0, .ref x0), (2, .int x2), (3, .int y3_l12_3)]) C dJ6_circularClear_36 rfl (by decide) rfl ?_
            refine rb_iload_n C dJ6_circularClear_37 rfl 2 rfl ?_
            refine rb_istore_n (lv' := [(3, .int x2), (1, .int 0), (0, .ref x0), (2, .int x2)]) C dJ6_circularClear_38 rfl (by decide) rfl ?_
            refine rb_goto (tgt := 12) C dJ6_circularClear_39 (by decide) ?_
            refine rb_sub [2, 1, 3, 0] rfl ?_
            exact ih_l12_3 0 x2 h_l12_3 n_l12_3 _ _ _ _ hf hb
          · have hf := (if_pos c_5).symm.trans hf
            refine rb_goto (tgt := 42) C dJ6_circularClear_32 (by decide) ?_
            cases hf
            exact rb_vret C rfl hb.e.2.1 hb.e.2.2 dJ6_circularClear_42 ⟨rfl, rfl, hb.e.1⟩
        · have hf := (if_neg c_4).symm.trans hf
          refine rb_aload_n C dJ6_circularClear_17 rfl 0 rfl ?_
          refine rb_iload_n C dJ6_circularClear_18 rfl 1 rfl ?_
          refine rb_null C dJ6_circularClear_19 ?_
          obtain ⟨h_6, e_7, hf⟩ := rb_bd hf
          refine rb_hasN C 6 rfl e_7 dJ6_circularClear_20 ?_
          refine rb_iinc (v := (y1_l12_3 + 1)) (lv' := [(1, .int (y1_l12_3 + 1)), (0, .ref x0), (2, .int x2), (3, .int y3_l12_3)]) C dJ6_circularClear_21 (k := 1) rfl rfl (by decide) rfl ?_
          refine rb_goto (tgt := 12) C dJ6_circularClear_24 (by decide) ?_
          refine rb_sub [1, 0, 2, 3] rfl ?_
          exact ih_l12_3 (y1_l12_3 + 1) y3_l12_3 h_6 n_l12_3 _ _ _ _ hf hb
    refine rb_sub [1, 2, 3, 0] rfl ?_
    exact L_l12_3 4096 x1 w0_j11_2 h n _ _ _ _ hf hb
  refine rb_icmp_gt (tgt := 9) C dJ6_circularClear_2 (by decide) (fun c_1 => ?_) (fun c_1 => ?_)
  · have hf := (if_pos c_1).symm.trans hf
    refine rb_aload_n C dJ6_circularClear_9 rfl 0 rfl ?_
    obtain ⟨v_8, e_9, hf⟩ := rb_bd hf
    refine rb_hlen (t := 6) C rfl e_9 dJ6_circularClear_10 ?_
    exact J_j11_2 (nI v_8)  _ _ _ _ hf hb
  · have hf := (if_neg c_1).symm.trans hf
    refine rb_iload_n C dJ6_circularClear_5 rfl 2 rfl ?_
    refine rb_goto (tgt := 11) C dJ6_circularClear_6 (by decide) ?_
    exact J_j11_2 x2  _ _ _ _ hf hb
def f_J6_clear (Ev : rb_E) (h : AH) (n : Nat) (o : Nat) : Option (Unit × AH × Nat × Nat) := ((hp_p Ev h o 15 0).bind fun v_1 => ((hp_i Ev h o 15 1).bind fun v_3 => ((hp_i Ev h o 15 2).bind fun v_5 => ((f_J6_circularClear Ev h n v_1 v_3 v_5).bind fun (r_8, h_9, k_10, s_11) => (ad k_10 s_11 ((hp_put h_9 o 15 2 (.int 0)).bind fun h_17 => ((hp_put h_17 o 15 1 (.int 0)).bind fun h_19 => (some ((), h_19, 0, 0)))))))))
abbrev rm_J6_clear (k s : Nat) : Room := { frames := 1, cells := k, slots := s, locals := 23 }
set_option maxHeartbeats 4000000 in
theorem ct_J6_clear (Ev : rb_E) (h : AH) (n : Nat) (o : Nat) (r : Unit) (h' : AH) (k s : Nat) (hf : f_J6_clear Ev h n o = some (r, h', k, s)) : Ct Ev yJ6_clear (ws_ yJ6_clear cJ6_clear 1 none) (rm_J6_clear k s) [.ref o] h n (pX (.inl (none)) h' (n + k)) := by
  rw [f_J6_clear] at hf
  refine Ct.of rfl (Nat.le_of_ble_eq_true rfl) fun X C hnm => ?_
  have C : Cx Ev X RJ6 cJ6_clear 1 none [] := C
  show Wa Ev X (rm_J6_clear k s) 1 h n 0 0 (rb_MQ Ev X (rm_J6_clear k s) (pX (.inl (none)) h' (n + k))) 0 [(0, .ref o)] []
  have hb : Bd (n + k) k s n 0 0 k s := ⟨rfl, Nat.le_of_eq (Nat.zero_add _), Nat.le_of_eq (Nat.zero_add _)⟩
  refine rb_aload_n C dJ6_clear_0 rfl 0 rfl ?_
  obtain ⟨v_1, e_2, hf⟩ := rb_bd hf
  refine rb_hP C fl_J6_3_J6 e_2 dJ6_clear_1 ?_
  refine rb_aload_n C dJ6_clear_4 rfl 0 rfl ?_
  obtain ⟨v_3, e_4, hf⟩ := rb_bd hf
  refine rb_hI C fl_J6_24_J6 e_4 dJ6_clear_5 ?_
  refine rb_aload_n C dJ6_clear_8 rfl 0 rfl ?_
  obtain ⟨v_5, e_6, hf⟩ := rb_bd hf
  refine rb_hI C fl_J6_20_J6 e_6 dJ6_clear_9 ?_
  obtain ⟨⟨r_8, h_9, k_10, s_11⟩, e_12, hf⟩ := rb_bd hf
  obtain ⟨a_15, b_16, hf, ea_13, eb_14⟩ := ad_at hf
  refine rb_callS (As := [.ref v_1, .int v_3, .int v_5]) (rest := []) C mi_J6_circularClear ss_J6_181 (ct_J6_circularClear Ev h n v_1 v_3 v_5 r_8 _ _ _ e_12) rfl rfl (Nat.le_of_ble_eq_true rfl) ⟨Nat.le_of_ble_eq_true rfl, Nat.le_of_ble_eq_true rfl, Bd.c1 hb ea_13, Bd.s1 hb eb_14⟩ dJ6_clear_12 rb_xX (rb_kX (rb_w (kc := (0 + k_10)) (ks := (0 + s_11)) rfl rfl ?_))
  have hb := Bd.ade hb ea_13 eb_14
  refine rb_aload_n C dJ6_clear_15 rfl 0 rfl ?_
  refine rb_aload_n C dJ6_clear_16 rfl 0 rfl ?_
  refine rb_iconst (v := 0) C dJ6_clear_17 rfl ?_
  refine rb_dup_x1 C dJ6_clear_18 rfl rfl ?_
  obtain ⟨h_17, e_18, hf⟩ := rb_bd hf
  refine rb_hput C fw_J6_20_J6 e_18 rfl rfl dJ6_clear_19 ?_
  obtain ⟨h_19, e_20, hf⟩ := rb_bd hf
  refine rb_hput C fw_J6_24_J6 e_20 rfl rfl dJ6_clear_22 ?_
  cases hf
  exact rb_vret C rfl hb.e.2.1 hb.e.2.2 dJ6_clear_25 ⟨rfl, rfl, hb.e.1⟩
def f_X1_restoreSnapshot (Ev : rb_E) (h : AH) (n : Nat) (o : Nat) : Option ((Int32 ⊕ (String × Nat)) × AH × Nat × Nat) := ((hp_o Ev h o 0 6).bind fun v_1 => (match v_1 with | none => ((f_X1_requireState Ev h n 0).bind fun (r_4, h_5, k_6, s_7) => (ad k_6 s_7 (match r_4 with | .inl v_13 => (ad 1 5 (rb_lt (va_up h_5 (n + k_6) (some (.inr (1, [.null, .null, .null, .null, .null])))) fun h_20 => ((hp_o Ev h_20 o 0 6).bind fun v_21 => (match v_21 with | none => none | some v_21_q => ((f_X2_init_2 Ev h_20 ((n + k_6) + 1) (n + k_6) v_21_q).bind fun (r_24, h_25, k_26, s_27) => (ad k_26 s_27 ((hp_put h_25 o 0 0 (.ref (n + k_6))).bind fun h_33 => ((hp_p Ev h_33 o 0 1).bind fun v_35 => ((hp_k Ev h_33 v_35 15).bind fun u_37 => ((f_J6_clear Ev h_33 (((n + k_6) + 1) + k_26) v_35).bind fun (r_40, h_41, k_42, s_43) => (ad k_42 s_43 ((hp_p Ev h_41 o 0 0).bind fun v_49 => ((hp_p Ev h_41 v_49 1 0).bind fun v_51 => ((hp_k Ev h_41 v_51 13).bind fun u_53 => ((f_J1_length Ev h_41 v_51).bind fun v_56 => (some (.inl v_56, h_41, 0, 0))))))))))))))))) | .inr (E_14, q_15) => (if E_14 = "java/lang/IllegalStateException" then (some (.inr ("java/lang/IllegalStateException", q_15), h_5, 0, 0)) else none)))) | some v_1_q => ((f_X1_requireState Ev h n 1).bind fun (r_60, h_61, k_62, s_63) => (ad k_62 s_63 (match r_60 with | .inl v_69 => (ad 1 5 (rb_lt (va_up h_61 (n + k_62) (some (.inr (1, [.null, .null, .null, .null, .null])))) fun h_76 => ((hp_o Ev h_76 o 0 6).bind fun v_77 => (match v_77 with | none => none | some v_77_q => ((f_X2_init_2 Ev h_76 ((n + k_62) + 1) (n + k_62) v_77_q).bind fun (r_80, h_81, k_82, s_83) => (ad k_82 s_83 ((hp_put h_81 o 0 0 (.ref (n + k_62))).bind fun h_89 => ((hp_p Ev h_89 o 0 1).bind fun v_91 => ((hp_k Ev h_89 v_91 15).bind fun u_93 => ((f_J6_clear Ev h_89 (((n + k_62) + 1) + k_82) v_91).bind fun (r_96, h_97, k_98, s_99) => (ad k_98 s_99 ((hp_p Ev h_97 o 0 0).bind fun v_105 => ((hp_p Ev h_97 v_105 1 0).bind fun v_107 => ((hp_k Ev h_97 v_107 13).bind fun u_109 => ((f_J1_length Ev h_97 v_107).bind fun v_112 => (some (.inl v_112, h_97, 0, 0))))))))))))))))) | .inr (E_70, q_71) => (if E_70 = "java/lang/IllegalStateException" then (some (.inr ("java/lang/IllegalStateException", q_71), h_61, 0, 0)) else none))))))
abbrev rm_X1_restoreSnapshot (k s : Nat) : Room := { frames := 14, cells := k, slots := s, locals := 307 }
set_option maxHeartbeats 4000000 in
theorem ct_X1_restoreSnapshot (Ev : rb_E) (h : AH) (n : Nat) (o : Nat) (r : Int32 ⊕ (String × Nat)) (h' : AH) (k s : Nat) (hf : f_X1_restoreSnapshot Ev h n o = some (r, h', k, s)) : Ct Ev yX1_restoreSnapshot (ws_ yX1_restoreSnapshot cX1_restoreSnapshot 1 (some .int)) (rm_X1_restoreSnapshot k s) [.ref o] h n (pX (rMap (fun v => some (.int v)) r) h' (n + k)) := by
  rw [f_X1_restoreSnapshot] at hf
  refine Ct.of rfl (Nat.le_of_ble_eq_true rfl) fun X C hnm => ?_
  have C : Cx Ev X RX1 cX1_restoreSnapshot 1 (some .int) [] := C
  show Wa Ev X (rm_X1_restoreSnapshot k s) 1 h n 0 0 (rb_MQ Ev X (rm_X1_restoreSnapshot k s) (pX (rMap (fun v => some (.int v)) r) h' (n + k))) 0 [(0, .ref o)] []
  have hb : Bd (n + k) k s n 0 0 k s := ⟨rfl, Nat.le_of_eq (Nat.zero_add _), Nat.le_of_eq (Nat.zero_add _)⟩
  refine rb_aload_n C dX1_restoreSnapshot_0 rfl 0 rfl ?_
  obtain ⟨v_1, e_2, hf⟩ := rb_bd hf
  refine rb_hO C fl_X1_409_X1 e_2 dX1_restoreSnapshot_1 ?_
  cases v_1 with
  | none =>
    dsimp only at hf
    refine rb_ifnullN (tgt := 11) C dX1_restoreSnapshot_4 (by decide) ?_
    refine rb_iconst (v := 0) C dX1_restoreSnapshot_11 rfl ?_
    obtain ⟨⟨r_4, h_5, k_6, s_7⟩, e_8, hf⟩ := rb_bd hf
    obtain ⟨a_11, b_12, hf, ea_9, eb_10⟩ := ad_at hf
    rcases r_4 with v_13 | ⟨E_14, q_15⟩
    · dsimp only at hf
      refine rb_callS (As := [.int 0]) (rest := []) C mi_X1_requireState ss_X1_327 (ct_X1_requireState Ev h n 0 (.inl v_13) _ _ _ e_8) rfl rfl (Nat.le_of_ble_eq_true rfl) ⟨Nat.le_of_ble_eq_true rfl, Nat.le_of_ble_eq_true rfl, Bd.c1 hb ea_9, Bd.s1 hb eb_10⟩ dX1_restoreSnapshot_12 rb_xX (rb_kX (r := none) (rb_w (kc := (0 + k_6)) (ks := (0 + s_7)) rfl rfl ?_))
      have hb := Bd.ade hb ea_9 eb_10
      refine rb_aload_n C dX1_restoreSnapshot_15 rfl 0 rfl ?_
      obtain ⟨a_18, b_19, hf, ea_16, eb_17⟩ := ad_at hf
      refine rb_hnew C ck_X2 q125 q126 q70 [.null, .null, .null, .null, .null] rfl (Bd.c1 hb ea_16) (Bd.s1 hb eb_17) dX1_restoreSnapshot_16 ?_
      have hb := Bd.ade hb ea_16 eb_17
      obtain ⟨h_20, e_h_20⟩ : ∃ z, z = (va_up h_5 (n + k_6) (some (.inr (1, [.null, .null, .null, .null, .null])))) := ⟨_, rfl⟩
      rw [← e_h_20]
      have hf := rb_let hf e_h_20
      refine rb_dup C dX1_restoreSnapshot_19 rfl ?_
      refine rb_aload_n C dX1_restoreSnapshot_20 rfl 0 rfl ?_
      obtain ⟨v_21, e_22, hf⟩ := rb_bd hf
      refine rb_hO C fl_X1_409_X1 e_22 dX1_restoreSnapshot_21 ?_
      cases v_21 with
      | none =>
        dsimp only at hf
        cases hf
      | some v_21_q =>
        dsimp only at hf
        obtain ⟨⟨r_24, h_25, k_26, s_27⟩, e_28, hf⟩ := rb_bd hf
        obtain ⟨a_31, b_32, hf, ea_29, eb_30⟩ := ad_at hf
        refine rb_callI (As := [.ref v_21_q]) (rest := [.ref (n + k_6), .ref o]) C mi_X2_init_2 si_X1_148 (ct_X2_init_2 Ev h_20 ((n + k_6) + 1) (n + k_6) v_21_q r_24 _ _ _ e_28) rfl rfl (Nat.le_of_ble_eq_true rfl) ⟨Nat.le_of_ble_eq_true rfl, Nat.le_of_ble_eq_true rfl, Bd.c1 hb ea_29, Bd.s1 hb eb_30⟩ dX1_restoreSnapshot_24 rb_xX (rb_kX (rb_w (kc := (((0 + k_6) + 1) + k_26)) (ks := (((0 + s_7) + 5) + s_27)) rfl rfl ?_))
        have hb := Bd.ade hb ea_29 eb_30
        obtain ⟨h_33, e_34, hf⟩ := rb_bd hf
        refine rb_hput C fw_X1_104_X1 e_34 rfl rfl dX1_restoreSnapshot_27 ?_
        refine rb_aload_n C dX1_restoreSnapshot_30 rfl 0 rfl ?_
        obtain ⟨v_35, e_36, hf⟩ := rb_bd hf
        refine rb_hP C fl_X1_111_X1 e_36 dX1_restoreSnapshot_31 ?_
        obtain ⟨u_37, e_38, hf⟩ := rb_bd hf
        obtain ⟨⟨r_40, h_41, k_42, s_43⟩, e_44, hf⟩ := rb_bd hf
        obtain ⟨a_47, b_48, hf, ea_45, eb_46⟩ := ad_at hf
        refine rb_callV (As := []) (rest := []) C mi_J6_clear sv_X1_412 (hp_k_isC C.pf e_38 ck_J6) (ct_J6_clear Ev h_33 (((n + k_6) + 1) + k_26) v_35 r_40 _ _ _ e_44) rfl rfl (Nat.le_of_ble_eq_true rfl) ⟨Nat.le_of_ble_eq_true rfl, Nat.le_of_ble_eq_true rfl, Bd.c1 hb ea_45, Bd.s1 hb eb_46⟩ dX1_restoreSnapshot_34 rb_xX (rb_kX (rb_w (kc := ((((0 + k_6) + 1) + k_26) + k_42)) (ks := ((((0 + s_7) + 5) + s_27) + s_43)) rfl rfl ?_))
        have hb := Bd.ade hb ea_45 eb_46
        refine rb_aload_n C dX1_restoreSnapshot_37 rfl 0 rfl ?_
        obtain ⟨v_49, e_50, hf⟩ := rb_bd hf
        refine rb_hP C fl_X1_104_X1 e_50 dX1_restoreSnapshot_38 ?_
        obtain ⟨v_51, e_52, hf⟩ := rb_bd hf
        refine rb_hP C fl_X1_182_X2 e_52 dX1_restoreSnapshot_41 ?_
        obtain ⟨u_53, e_54, hf⟩ := rb_bd hf
        obtain ⟨v_56, e_57, hf⟩ := rb_bd hf
        refine rb_callV (As := []) (rest := []) C mi_J1_length sv_X1_185 (hp_k_isC C.pf e_54 ck_J1) (ct_J1_length Ev h_41 ((((n + k_6) + 1) + k_26) + k_42) v_51 _ e_57) rfl rfl (Nat.le_of_ble_eq_true rfl) ⟨Nat.le_of_ble_eq_true rfl, Nat.le_of_ble_eq_true rfl, hb.c0, hb.s0⟩ dX1_restoreSnapshot_44 rb_xXi (rb_kXi fun hn_55 => (rb_w (kc := ((((0 + k_6) + 1) + k_26) + k_42)) (ks := ((((0 + s_7) + 5) + s_27) + s_43)) rfl rfl ?_))
        cases hf
        exact rb_iret C rfl rfl hb.e.2.1 hb.e.2.2 dX1_restoreSnapshot_47 ⟨rfl, rfl, hb.e.1⟩
    · dsimp only at hf
      by_cases c_58 : E_14 = "java/lang/IllegalStateException"
      · have hf := (if_pos c_58).symm.trans hf
        subst c_58
        refine rb_callS (As := [.int 0]) (rest := []) C mi_X1_requireState ss_X1_327 (ct_X1_requireState Ev h n 0 (.inr ("java/lang/IllegalStateException", q_15)) _ _ _ e_8) rfl rfl (Nat.le_of_ble_eq_true rfl) ⟨Nat.le_of_ble_eq_true rfl, Nat.le_of_ble_eq_true rfl, Bd.c1 hb ea_9, Bd.s1 hb eb_10⟩ dX1_restoreSnapshot_12 (rb_xY (E := "java/lang/IllegalStateException") (rb_wX (kc := (0 + k_6)) (ks := (0 + s_7)) rfl rfl ?_)) rb_kY
        have hb := Bd.ade hb ea_9 eb_10
        cases hf
        exact rb_out C (fun _ z => absurd z List.not_mem_nil) hb.e.2.1 hb.e.2.2 ⟨rfl, rfl, hb.e.1⟩
      have hf := (if_neg c_58).symm.trans hf
      cases hf
  | some v_1_q =>
    dsimp only at hf
    refine rb_ifnull C dX1_restoreSnapshot_4 ?_
    refine rb_iconst (v := 1) C dX1_restoreSnapshot_7 rfl ?_
    refine rb_goto (tgt := 12) C dX1_restoreSnapshot_8 (by decide) ?_
    obtain ⟨⟨r_60, h_61, k_62, s_63⟩, e_64, hf⟩ := rb_bd hf
    obtain ⟨a_67, b_68, hf, ea_65, eb_66⟩ := ad_at hf
    rcases r_60 with v_69 | ⟨E_70, q_71⟩
    · dsimp only at hf
      refine rb_callS (As := [.int 1]) (rest := []) C mi_X1_requireState ss_X1_327 (ct_X1_requireState Ev h n 1 (.inl v_69) _ _ _ e_64) rfl rfl (Nat.le_of_ble_eq_true rfl) ⟨Nat.le_of_ble_eq_true rfl, Nat.le_of_ble_eq_true rfl, Bd.c1 hb ea_65, Bd.s1 hb eb_66⟩ dX1_restoreSnapshot_12 rb_xX (rb_kX (r := none) (rb_w (kc := (0 + k_62)) (ks := (0 + s_63)) rfl rfl ?_))
      have hb := Bd.ade hb ea_65 eb_66
      refine rb_aload_n C dX1_restoreSnapshot_15 rfl 0 rfl ?_
      obtain ⟨a_74, b_75, hf, ea_72, eb_73⟩ := ad_at hf
      refine rb_hnew C ck_X2 q125 q126 q70 [.null, .null, .null, .null, .null] rfl (Bd.c1 hb ea_72) (Bd.s1 hb eb_73) dX1_restoreSnapshot_16 ?_
      have hb := Bd.ade hb ea_72 eb_73
      obtain ⟨h_76, e_h_76⟩ : ∃ z, z = (va_up h_61 (n + k_62) (some (.inr (1, [.null, .null, .null, .null, .null])))) := ⟨_, rfl⟩
      rw [← e_h_76]
      have hf := rb_let hf e_h_76
      refine rb_dup C dX1_restoreSnapshot_19 rfl ?_
      refine rb_aload_n C dX1_restoreSnapshot_20 rfl 0 rfl ?_
      obtain ⟨v_77, e_78, hf⟩ := rb_bd hf
      refine rb_hO C fl_X1_409_X1 e_78 dX1_restoreSnapshot_21 ?_
      cases v_77 with
      | none =>
        dsimp only at hf
        cases hf
      | some v_77_q =>
        dsimp only at hf
        obtain ⟨⟨r_80, h_81, k_82, s_83⟩, e_84, hf⟩ := rb_bd hf
        obtain ⟨a_87, b_88, hf, ea_85, eb_86⟩ := ad_at hf
        refine rb_callI (As := [.ref v_77_q]) (rest := [.ref (n + k_62), .ref o]) C mi_X2_init_2 si_X1_148 (ct_X2_init_2 Ev h_76 ((n + k_62) + 1) (n + k_62) v_77_q r_80 _ _ _ e_84) rfl rfl (Nat.le_of_ble_eq_true rfl) ⟨Nat.le_of_ble_eq_true rfl, Nat.le_of_ble_eq_true rfl, Bd.c1 hb ea_85, Bd.s1 hb eb_86⟩ dX1_restoreSnapshot_24 rb_xX (rb_kX (rb_w (kc := (((0 + k_62) + 1) + k_82)) (ks := (((0 + s_63) + 5) + s_83)) rfl rfl ?_))
        have hb := Bd.ade hb ea_85 eb_86
        obtain ⟨h_89, e_90, hf⟩ := rb_bd hf
        refine rb_hput C fw_X1_104_X1 e_90 rfl rfl dX1_restoreSnapshot_27 ?_
        refine rb_aload_n C dX1_restoreSnapshot_30 rfl 0 rfl ?_
        obtain ⟨v_91, e_92, hf⟩ := rb_bd hf
        refine rb_hP C fl_X1_111_X1 e_92 dX1_restoreSnapshot_31 ?_
        obtain ⟨u_93, e_94, hf⟩ := rb_bd hf
        obtain ⟨⟨r_96, h_97, k_98, s_99⟩, e_100, hf⟩ := rb_bd hf
        obtain ⟨a_103, b_104, hf, ea_101, eb_102⟩ := ad_at hf
        refine rb_callV (As := []) (rest := []) C mi_J6_clear sv_X1_412 (hp_k_isC C.pf e_94 ck_J6) (ct_J6_clear Ev h_89 (((n + k_62) + 1) + k_82) v_91 r_96 _ _ _ e_100) rfl rfl (Nat.le_of_ble_eq_true rfl) ⟨Nat.le_of_ble_eq_true rfl, Nat.le_of_ble_eq_true rfl, Bd.c1 hb ea_101, Bd.s1 hb eb_102⟩ dX1_restoreSnapshot_34 rb_xX (rb_kX (rb_w (kc := ((((0 + k_62) + 1) + k_82) + k_98)) (ks := ((((0 + s_63) + 5) + s_83) + s_99)) rfl rfl ?_))
        have hb := Bd.ade hb ea_101 eb_102
        refine rb_aload_n C dX1_restoreSnapshot_37 rfl 0 rfl ?_
        obtain ⟨v_105, e_106, hf⟩ := rb_bd hf
        refine rb_hP C fl_X1_104_X1 e_106 dX1_restoreSnapshot_38 ?_
        obtain ⟨v_107, e_108, hf⟩ := rb_bd hf
        refine rb_hP C fl_X1_182_X2 e_108 dX1_restoreSnapshot_41 ?_
        obtain ⟨u_109, e_110, hf⟩ := rb_bd hf
        obtain ⟨v_112, e_113, hf⟩ := rb_bd hf
        refine rb_callV (As := []) (rest := []) C mi_J1_length sv_X1_185 (hp_k_isC C.pf e_110 ck_J1) (ct_J1_length Ev h_97 ((((n + k_62) + 1) + k_82) + k_98) v_107 _ e_113) rfl rfl (Nat.le_of_ble_eq_true rfl) ⟨Nat.le_of_ble_eq_true rfl, Nat.le_of_ble_eq_true rfl, hb.c0, hb.s0⟩ dX1_restoreSnapshot_44 rb_xXi (rb_kXi fun hn_111 => (rb_w (kc := ((((0 + k_62) + 1) + k_82) + k_98)) (ks := ((((0 + s_63) + 5) + s_83) + s_99)) rfl rfl ?_))
        cases hf
        exact rb_iret C rfl rfl hb.e.2.1 hb.e.2.2 dX1_restoreSnapshot_47 ⟨rfl, rfl, hb.e.1⟩
    · dsimp only at hf
      by_cases c_114 : E_70 = "java/lang/IllegalStateException"
      · have hf := (if_pos c_114).symm.trans hf
        subst c_114
        refine rb_callS (As := [.int 1]) (rest := []) C mi_X1_requireState ss_X1_327 (ct_X1_requireState Ev h n 1 (.inr ("java/lang/IllegalStateException", q_71)) _ _ _ e_64) rfl rfl (Nat.le_of_ble_eq_true rfl) ⟨Nat.le_of_ble_eq_true rfl, Nat.le_of_ble_eq_true rfl, Bd.c1 hb ea_65, Bd.s1 hb eb_66⟩ dX1_restoreSnapshot_12 (rb_xY (E := "java/lang/IllegalStateException") (rb_wX (kc := (0 + k_62)) (ks := (0 + s_63)) rfl rfl ?_)) rb_kY
        have hb := Bd.ade hb ea_65 eb_66
        cases hf
        exact rb_out C (fun _ z => absurd z List.not_mem_nil) hb.e.2.1 hb.e.2.2 ⟨rfl, rfl, hb.e.1⟩
      have hf := (if_neg c_114).symm.trans hf
      cases hf
