set_option maxRecDepth 100000
set_option linter.unusedVariables false
def f_J6_pop (Ev : rb_E) (h : AH) (n : Nat) (o : Nat) : Option (Nat × AH × Nat × Nat) := ((hp_k Ev h o 15).bind fun u_1 => ((f_J6_removeFirst Ev h n o).bind fun (r_4, h_5, k_6, s_7) => (ad k_6 s_7 (some (r_4, h_5, 0, 0)))))
abbrev rm_J6_pop (k s : Nat) : Room := { frames := 3, cells := k, slots := s, locals := 65 }
set_option maxHeartbeats 4000000 in
theorem ct_J6_pop (Ev : rb_E) (h : AH) (n : Nat) (o : Nat) (r : Nat) (h' : AH) (k s : Nat) (hf : f_J6_pop Ev h n o = some (r, h', k, s)) : Ct Ev yJ6_pop (ws_ yJ6_pop cJ6_pop 1 (some (.object "java/lang/Object"))) (rm_J6_pop k s) [.ref o] h n (pX (.inl (some (.ref r))) h' (n + k)) := by
  rw [f_J6_pop] at hf
  refine Ct.of rfl (Nat.le_of_ble_eq_true rfl) fun X C hnm => ?_
  have C : Cx Ev X RJ6 cJ6_pop 1 (some (.object "java/lang/Object")) [] := C
  show Wa Ev X (rm_J6_pop k s) 1 h n 0 0 (rb_MQ Ev X (rm_J6_pop k s) (pX (.inl (some (.ref r))) h' (n + k))) 0 [(0, .ref o)] []
  have hb : Bd (n + k) k s n 0 0 k s := ⟨rfl, Nat.le_of_eq (Nat.zero_add _), Nat.le_of_eq (Nat.zero_add _)⟩
  refine rb_aload_n C dJ6_pop_0 rfl 0 rfl ?_
  obtain ⟨u_1, e_2, hf⟩ := rb_bd hf
  obtain ⟨⟨r_4, h_5, k_6, s_7⟩, e_8, hf⟩ := rb_bd hf
  obtain ⟨a_11, b_12, hf, ea_9, eb_10⟩ := ad_at hf
  refine rb_callV (As := []) (rest := []) C mi_J6_removeFirst sv_J6_118 (hp_k_isC C.pf e_2 ck_J6) (ct_J6_removeFirst Ev h n o r_4 _ _ _ e_8) rfl rfl (Nat.le_of_ble_eq_true rfl) ⟨Nat.le_of_ble_eq_true rfl, Nat.le_of_ble_eq_true rfl, Bd.c1 hb ea_9, Bd.s1 hb eb_10⟩ dJ6_pop_1 rb_xX (rb_kX (rb_w (kc := (0 + k_6)) (ks := (0 + s_7)) rfl rfl ?_))
  have hb := Bd.ade hb ea_9 eb_10
  cases hf
  exact rb_aret C rfl (Or.inl ⟨_, rfl⟩) (Or.inr ⟨_, rfl⟩) hb.e.2.1 hb.e.2.2 dJ6_pop_4 ⟨rfl, rfl, hb.e.1⟩
def f_J17_intValue (Ev : rb_E) (h : AH) (o : Nat) : Option Int32 := ((hp_i Ev h o 18 0).bind fun v_1 => (some v_1))
abbrev rm_J17_intValue : Room := { frames := 0, cells := 0, slots := 0, locals := 0 }
set_option maxHeartbeats 4000000 in
theorem ct_J17_intValue (Ev : rb_E) (h : AH) (n : Nat) (o : Nat) (r : Int32) (hf : f_J17_intValue Ev h o = some r) : Ct Ev yJ17_intValue (ws_ yJ17_intValue cJ17_intValue 1 (some .int)) (rm_J17_intValue) [.ref o] h n (pXi .int r h n) := by
  rw [f_J17_intValue] at hf
  refine Ct.of rfl (Nat.le_of_ble_eq_true rfl) fun X C hnm => ?_
  have C : Cx Ev X RJ17 cJ17_intValue 1 (some .int) [] := C
  show Wa Ev X (rm_J17_intValue) 1 h n 0 0 (rb_MQ Ev X (rm_J17_intValue) (pXi .int r h n)) 0 [(0, .ref o)] []
  refine rb_aload_n C dJ17_intValue_0 rfl 0 rfl ?_
  obtain ⟨v_1, e_2, hf⟩ := rb_bd hf
  refine rb_hI C fl_J17_205_J17 e_2 dJ17_intValue_1 ?_
  cases hf
  exact rb_iret C rfl rfl (Nat.zero_le _) (Nat.zero_le _) dJ17_intValue_4 ⟨rfl, rfl, rfl, rfl⟩
def f_J16_init_J17 (Ev : rb_E) (h : AH) (n : Nat) (o : Nat) : Option (Unit × AH × Nat × Nat) := (some ((), h, 0, 0))
abbrev rm_J16_init_J17 (k s : Nat) : Room := { frames := 1, cells := k, slots := s, locals := 40 }
set_option maxHeartbeats 4000000 in
theorem ct_J16_init_J17 (Ev : rb_E) (h : AH) (n : Nat) (o : Nat) (r : Unit) (h' : AH) (k s : Nat) (hf : f_J16_init_J17 Ev h n o = some (r, h', k, s)) : Ct Ev yJ16_init (ws_ yJ16_init cJ16_init 1 none) (rm_J16_init_J17 k s) [.ref o] h n (pX (.inl (none)) h' (n + k)) := by
  rw [f_J16_init_J17] at hf
  refine Ct.of rfl (Nat.le_of_ble_eq_true rfl) fun X C hnm => ?_
  have C : Cx Ev X RJ16 cJ16_init 1 none [] := C
  show Wa Ev X (rm_J16_init_J17 k s) 1 h n 0 0 (rb_MQ Ev X (rm_J16_init_J17 k s) (pX (.inl (none)) h' (n + k))) 0 [(0, .ref o)] []
  have hb : Bd (n + k) k s n 0 0 k s := ⟨rfl, Nat.le_of_eq (Nat.zero_add _), Nat.le_of_eq (Nat.zero_add _)⟩
  refine rb_aload_n C dJ16_init_0 rfl 0 rfl ?_
  refine rb_objInit C q1560 q123 q124 dJ16_init_1 (Nat.le_of_ble_eq_true rfl) (Nat.le_of_ble_eq_true rfl) ?_
  cases hf
  exact rb_vret C rfl hb.e.2.1 hb.e.2.2 dJ16_init_4 ⟨rfl, rfl, hb.e.1⟩
def f_J17_init (Ev : rb_E) (h : AH) (n : Nat) (o : Nat) (x1 : Int32) : Option (Unit × AH × Nat × Nat) := ((f_J16_init_J17 Ev h n o).bind fun (r_2, h_3, k_4, s_5) => (ad k_4 s_5 ((hp_put h_3 o 18 0 (.int x1)).bind fun h_11 => (some ((), h_11, 0, 0)))))
abbrev rm_J17_init (k s : Nat) : Room := { frames := 2, cells := k, slots := s, locals := 60 }
set_option maxHeartbeats 4000000 in
theorem ct_J17_init (Ev : rb_E) (h : AH) (n : Nat) (o : Nat) (x1 : Int32) (r : Unit) (h' : AH) (k s : Nat) (hf : f_J17_init Ev h n o x1 = some (r, h', k, s)) : Ct Ev yJ17_init (ws_ yJ17_init cJ17_init 2 none) (rm_J17_init k s) [.ref o, .int x1] h n (pX (.inl (none)) h' (n + k)) := by
  rw [f_J17_init] at hf
  refine Ct.of rfl (Nat.le_of_ble_eq_true rfl) fun X C hnm => ?_
  have C : Cx Ev X RJ17 cJ17_init 2 none [] := C
  show Wa Ev X (rm_J17_init k s) 2 h n 0 0 (rb_MQ Ev X (rm_J17_init k s) (pX (.inl (none)) h' (n + k))) 0 [(0, .ref o), (1, .int x1)] []
  have hb : Bd (n + k) k s n 0 0 k s := ⟨rfl, Nat.le_of_eq (Nat.zero_add _), Nat.le_of_eq (Nat.zero_add _)⟩
  refine rb_aload_n C dJ17_init_0 rfl 0 rfl ?_
  obtain ⟨⟨r_2, h_3, k_4, s_5⟩, e_6, hf⟩ := rb_bd hf
  obtain ⟨a_9, b_10, hf, ea_7, eb_8⟩ := ad_at hf
  refine rb_callI (As := []) (rest := []) C mi_J16_init si_J17_202 (ct_J16_init_J17 Ev h n o r_2 _ _ _ e_6) rfl rfl (Nat.le_of_ble_eq_true rfl) ⟨Nat.le_of_ble_eq_true rfl, Nat.le_of_ble_eq_true rfl, Bd.c1 hb ea_7, Bd.s1 hb eb_8⟩ dJ17_init_1 rb_xX (rb_kX (rb_w (kc := (0 + k_4)) (ks := (0 + s_5)) rfl rfl ?_))
  have hb := Bd.ade hb ea_7 eb_8
  refine rb_aload_n C dJ17_init_4 rfl 0 rfl ?_
  refine rb_iload_n C dJ17_init_5 rfl 1 rfl ?_
  obtain ⟨h_11, e_12, hf⟩ := rb_bd hf
  refine rb_hputF C ff_J17_205_J17 hnm e_12 rfl rfl dJ17_init_6 ?_
  cases hf
  exact rb_vret C rfl hb.e.2.1 hb.e.2.2 dJ17_init_9 ⟨rfl, rfl, hb.e.1⟩
def f_J17_valueOf (Ev : rb_E) (h : AH) (n : Nat) (x0 : Int32) : Option (Nat × AH × Nat × Nat) := (if x0 < (-128) then (ad 1 1 (rb_lt (va_up h n (some (.inr (18, [.int 0])))) fun h_6 => ((f_J17_init Ev h_6 (n + 1) n x0).bind fun (r_8, h_9, k_10, s_11) => (ad k_10 s_11 (some (n, h_9, 0, 0)))))) else (if 127 < x0 then (ad 1 1 (rb_lt (va_up h n (some (.inr (18, [.int 0])))) fun h_22 => ((f_J17_init Ev h_22 (n + 1) n x0).bind fun (r_24, h_25, k_26, s_27) => (ad k_26 s_27 (some (n, h_25, 0, 0)))))) else ((hp_sp Ev "java/lang/Integer$IntegerCache" "cache").bind fun v_33 => ((hp_ap Ev h 9 v_33 (x0 + 128)).bind fun v_35 => (some (v_35, h, 0, 0))))))
abbrev rm_J17_valueOf (k s : Nat) : Room := { frames := 3, cells := k, slots := s, locals := 81 }
set_option maxHeartbeats 4000000 in
theorem ct_J17_valueOf (Ev : rb_E) (h : AH) (n : Nat) (x0 : Int32) (r : Nat) (h' : AH) (k s : Nat) (hf : f_J17_valueOf Ev h n x0 = some (r, h', k, s)) : Ct Ev yJ17_valueOf (ws_ yJ17_valueOf cJ17_valueOf 1 (some (.object "java/lang/Integer"))) (rm_J17_valueOf k s) [.int x0] h n (pX (.inl (some (.ref r))) h' (n + k)) := by
  rw [f_J17_valueOf] at hf
  refine Ct.of rfl (Nat.le_of_ble_eq_true rfl) fun X C hnm => ?_
  have C : Cx Ev X RJ17 cJ17_valueOf 1 (some (.object "java/lang/Integer")) [] := C
  show Wa Ev X (rm_J17_valueOf k s) 1 h n 0 0 (rb_MQ Ev X (rm_J17_valueOf k s) (pX (.inl (some (.ref r))) h' (n + k))) 0 [(0, .int x0)] []
  have hb : Bd (n + k) k s n 0 0 k s := ⟨rfl, Nat.le_of_eq (Nat.zero_add _), Nat.le_of_eq (Nat.zero_add _)⟩
  refine rb_iload_n C dJ17_valueOf_0 rfl 0 rfl ?_
  refine rb_bipush (v := (-128)) C dJ17_valueOf_1 rfl ?_
  refine rb_icmp_lt (tgt := 23) C dJ17_valueOf_3 (by decide) (fun c_1 => ?_) (fun c_1 => ?_)
  · have hf := (if_pos c_1).symm.trans hf
    obtain ⟨a_4, b_5, hf, ea_2, eb_3⟩ := ad_at hf
    refine rb_hnew C ck_J17 q1552 q1553 q91 [.int 0] rfl (Bd.c1 hb ea_2) (Bd.s1 hb eb_3) dJ17_valueOf_23 ?_
    have hb := Bd.ade hb ea_2 eb_3
    obtain ⟨h_6, e_h_6⟩ : ∃ z, z = (va_up h n (some (.inr (18, [.int 0])))) := ⟨_, rfl⟩
    rw [← e_h_6]
    have hf := rb_let hf e_h_6
    refine rb_dup C dJ17_valueOf_26 rfl ?_
    refine rb_iload_n C dJ17_valueOf_27 rfl 0 rfl ?_
    obtain ⟨⟨r_8, h_9, k_10, s_11⟩, e_12, hf⟩ := rb_bd hf
    obtain ⟨a_15, b_16, hf, ea_13, eb_14⟩ := ad_at hf
    refine rb_callI (As := [.int x0]) (rest := [.ref n]) C mi_J17_init si_J17_199 (ct_J17_init Ev h_6 (n + 1) n x0 r_8 _ _ _ e_12) rfl rfl (Nat.le_of_ble_eq_true rfl) ⟨Nat.le_of_ble_eq_true rfl, Nat.le_of_ble_eq_true rfl, Bd.c1 hb ea_13, Bd.s1 hb eb_14⟩ dJ17_valueOf_28 rb_xX (rb_kX (rb_w (kc := ((0 + 1) + k_10)) (ks := ((0 + 1) + s_11)) rfl rfl ?_))
    have hb := Bd.ade hb ea_13 eb_14
    cases hf
    exact rb_aret C rfl (Or.inl ⟨_, rfl⟩) (Or.inr ⟨_, rfl⟩) hb.e.2.1 hb.e.2.2 dJ17_valueOf_31 ⟨rfl, rfl, hb.e.1⟩
  · have hf := (if_neg c_1).symm.trans hf
    refine rb_iload_n C dJ17_valueOf_6 rfl 0 rfl ?_
    refine rb_gets (v := .int 127) C q1548 q1549 (C.pf.2.2.1.2.2.2.2) dJ17_valueOf_7 ?_
    refine rb_icmp_gt (tgt := 23) C dJ17_valueOf_10 (by decide) (fun c_17 => ?_) (fun c_17 => ?_)
    · have hf := (if_pos c_17).symm.trans hf
      obtain ⟨a_20, b_21, hf, ea_18, eb_19⟩ := ad_at hf
      refine rb_hnew C ck_J17 q1552 q1553 q91 [.int 0] rfl (Bd.c1 hb ea_18) (Bd.s1 hb eb_19) dJ17_valueOf_23 ?_
      have hb := Bd.ade hb ea_18 eb_19
      obtain ⟨h_22, e_h_22⟩ : ∃ z, z = (va_up h n (some (.inr (18, [.int 0])))) := ⟨_, rfl⟩
      rw [← e_h_22]
      have hf := rb_let hf e_h_22
      refine rb_dup C dJ17_valueOf_26 rfl ?_
      refine rb_iload_n C dJ17_valueOf_27 rfl 0 rfl ?_
      obtain ⟨⟨r_24, h_25, k_26, s_27⟩, e_28, hf⟩ := rb_bd hf
      obtain ⟨a_31, b_32, hf, ea_29, eb_30⟩ := ad_at hf
      refine rb_callI (As := [.int x0]) (rest := [.ref n]) C mi_J17_init si_J17_199 (ct_J17_init Ev h_22 (n + 1) n x0 r_24 _ _ _ e_28) rfl rfl (Nat.le_of_ble_eq_true rfl) ⟨Nat.le_of_ble_eq_true rfl, Nat.le_of_ble_eq_true rfl, Bd.c1 hb ea_29, Bd.s1 hb eb_30⟩ dJ17_valueOf_28 rb_xX (rb_kX (rb_w (kc := ((0 + 1) + k_26)) (ks := ((0 + 1) + s_27)) rfl rfl ?_))
      have hb := Bd.ade hb ea_29 eb_30
      cases hf
      exact rb_aret C rfl (Or.inl ⟨_, rfl⟩) (Or.inr ⟨_, rfl⟩) hb.e.2.1 hb.e.2.2 dJ17_valueOf_31 ⟨rfl, rfl, hb.e.1⟩
    · have hf := (if_neg c_17).symm.trans hf
      obtain ⟨v_33, e_34, hf⟩ := rb_bd hf
      refine rb_hsp C q1550 q1551 e_34 dJ17_valueOf_13 ?_
      refine rb_iload_n C dJ17_valueOf_16 rfl 0 rfl ?_
      refine rb_sipush (v := 128) C dJ17_valueOf_17 rfl ?_
      refine rb_iadd C dJ17_valueOf_20 ?_
      obtain ⟨v_35, e_36, hf⟩ := rb_bd hf
      refine rb_hap C 9 rfl rfl e_36 dJ17_valueOf_21 ?_
      cases hf
      exact rb_aret C rfl (Or.inl ⟨_, rfl⟩) (Or.inr ⟨_, rfl⟩) hb.e.2.1 hb.e.2.2 dJ17_valueOf_22 ⟨rfl, rfl, hb.e.1⟩
def f_X11_applyLast_j66_44 (Ev : rb_E) (o : Nat) (w0_j66_44 : Int32) (h_j66_44 : AH) (n_j66_44 : Nat) : Option (Unit × AH × Nat × Nat) := ((hp_p Ev h_j66_44 o 9 1).bind fun v_45 => ((f_J17_valueOf Ev h_j66_44 n_j66_44 w0_j66_44).bind fun (r_48, h_49, k_50, s_51) => (ad k_50 s_51 ((hp_k Ev h_49 v_45 15).bind fun u_57 => ((f_J6_push Ev h_49 (n_j66_44 + k_50) v_45 r_48).bind fun (r_60, h_61, k_62, s_63) => (ad k_62 s_63 (some ((), h_61, 0, 0))))))))
def f_X11_applyLast (Ev : rb_E) (h : AH) (n : Nat) (o : Nat) : Option (Unit × AH × Nat × Nat) := ((hp_p Ev h o 9 2).bind fun v_1 => ((hp_k Ev h v_1 15).bind fun u_3 => ((f_J6_pop Ev h n v_1).bind fun (r_6, h_7, k_8, s_9) => (ad k_8 s_9 ((hp_ca Ev h_7 r_6 [19]).bind fun u_15 => ((hp_k Ev h_7 r_6 19).bind fun u_17 => ((f_J18_charValue Ev h_7 r_6).bind fun v_20 => ((hp_p Ev h_7 o 9 1).bind fun v_22 => ((hp_k Ev h_7 v_22 15).bind fun u_24 => ((f_J6_pop Ev h_7 (n + k_8) v_22).bind fun (r_27, h_28, k_29, s_30) => (ad k_29 s_30 ((hp_ca Ev h_28 r_27 [18]).bind fun u_36 => ((hp_k Ev h_28 r_27 18).bind fun u_38 => ((f_J17_intValue Ev h_28 r_27).bind fun v_41 => (if v_20 = 126 then (f_X11_applyLast_j66_44 Ev o (f_X1_clouded v_41) h_28 ((n + k_8) + k_29)) else ((hp_p Ev h_28 o 9 0).bind fun v_69 => ((hp_k Ev h_28 v_69 1).bind fun u_71 => ((f_X2_meaningOf Ev h_28 ((n + k_8) + k_29) v_69 v_20).bind fun (r_74, h_75, k_76, s_77) => (ad k_76 s_77 (match r_74 with | .inl v_83 => ((hp_p Ev h_75 o 9 1).bind fun v_86 => ((hp_k Ev h_75 v_86 15).bind fun u_88 => ((f_J6_pop Ev h_75 (((n + k_8) + k_29) + k_76) v_86).bind fun (r_91, h_92, k_93, s_94) => (ad k_93 s_94 ((hp_ca Ev h_92 r_91 [18]).bind fun u_100 => ((hp_k Ev h_92 r_91 18).bind fun u_102 => ((f_J17_intValue Ev h_92 r_91).bind fun v_105 => ((hp_en Ev v_83).bind fun k_107 => (f_X11_applyLast_j66_44 Ev o (f_enap v_83 k_107 v_105 v_41) h_92 ((((n + k_8) + k_29) + k_76) + k_93)))))))))) | .inr (E_84, q_85) => (if E_84 = "java/lang/IllegalArgumentException" then none else none)))))))))))))))))))))
abbrev rm_X11_applyLast (k s : Nat) : Room := { frames := 9, cells := k, slots := s, locals := 202 }
set_option maxHeartbeats 4000000 in
theorem ct_X11_applyLast (Ev : rb_E) (h : AH) (n : Nat) (o : Nat) (r : Unit) (h' : AH) (k s : Nat) (hf : f_X11_applyLast Ev h n o = some (r, h', k, s)) : Ct Ev yX11_applyLast (ws_ yX11_applyLast cX11_applyLast 4 none) (rm_X11_applyLast k s) [.ref o] h n (pX (.inl (none)) h' (n + k)) := by
  rw [f_X11_applyLast] at hf
  refine Ct.of rfl (Nat.le_of_ble_eq_true rfl) fun X C hnm => ?_
  have C : Cx Ev X RX11 cX11_applyLast 4 none [] := C
  show Wa Ev X (rm_X11_applyLast k s) 4 h n 0 0 (rb_MQ Ev X (rm_X11_applyLast k s) (pX (.inl (none)) h' (n + k))) 0 [(0, .ref o)] []
  have hb : Bd (n + k) k s n 0 0 k s := ⟨rfl, Nat.le_of_eq (Nat.zero_add _), Nat.le_of_eq (Nat.zero_add _)⟩
  refine rb_aload_n C dX11_applyLast_0 rfl 0 rfl ?_
  obtain ⟨v_1, e_2, hf⟩ := rb_bd hf
  refine rb_hP C fl_X11_16_X11 e_2 dX11_applyLast_1 ?_
  obtain ⟨u_3, e_4, hf⟩ := rb_bd hf
  obtain ⟨⟨r_6, h_7, k_8, s_9⟩, e_10, hf⟩ := rb_bd hf
  obtain ⟨a_13, b_14, hf, ea_11, eb_12⟩ := ad_at hf
  refine rb_callV (As := []) (rest := []) C mi_J6_pop sv_X11_27 (hp_k_isC C.pf e_4 ck_J6) (ct_J6_pop Ev h n v_1 r_6 _ _ _ e_10) rfl rfl (Nat.le_of_ble_eq_true rfl) ⟨Nat.le_of_ble_eq_true rfl, Nat.le_of_ble_eq_true rfl, Bd.c1 hb ea_11, Bd.s1 hb eb_12⟩ dX11_applyLast_4 rb_xX (rb_kX (rb_w (kc := (0 + k_8)) (ks := (0 + s_9)) rfl rfl ?_))
  have hb := Bd.ade hb ea_11 eb_12
  obtain ⟨u_15, e_16, hf⟩ := rb_bd hf
  refine rb_hca C q1582 okp_java_lang_Character e_16 dX11_applyLast_7 ?_
  obtain ⟨u_17, e_18, hf⟩ := rb_bd hf
  obtain ⟨v_20, e_21, hf⟩ := rb_bd hf
  refine rb_callV (As := []) (rest := []) C mi_J18_charValue sv_X11_33 (hp_k_isC C.pf e_18 ck_J18) (ct_J18_charValue Ev h_7 (n + k_8) r_6 _ e_21) rfl rfl (Nat.le_of_ble_eq_true rfl) ⟨Nat.le_of_ble_eq_true rfl, Nat.le_of_ble_eq_true rfl, hb.c0, hb.s0⟩ dX11_applyLast_10 rb_xXi (rb_kXi fun hn_19 => (rb_w (kc := (0 + k_8)) (ks := (0 + s_9)) rfl rfl ?_))
  refine rb_istore_n (lv' := [(1, .int v_20), (0, .ref o)]) C dX11_applyLast_13 rfl (by decide) rfl ?_
  refine rb_aload_n C dX11_applyLast_14 rfl 1 rfl ?_
  obtain ⟨v_22, e_23, hf⟩ := rb_bd hf
  refine rb_hP C fl_X11_10_X11 e_23 dX11_applyLast_15 ?_
  obtain ⟨u_24, e_25, hf⟩ := rb_bd hf
  obtain ⟨⟨r_27, h_28, k_29, s_30⟩, e_31, hf⟩ := rb_bd hf
  obtain ⟨a_34, b_35, hf, ea_32, eb_33⟩ := ad_at hf
  refine rb_callV (As := []) (rest := []) C mi_J6_pop sv_X11_27 (hp_k_isC C.pf e_25 ck_J6) (ct_J6_pop Ev h_7 (n + k_8) v_22 r_27 _ _ _ e_31) rfl rfl (Nat.le_of_ble_eq_true rfl) ⟨Nat.le_of_ble_eq_true rfl, Nat.le_of_ble_eq_true rfl, Bd.c1 hb ea_32, Bd.s1 hb eb_33⟩ dX11_applyLast_18 rb_xX (rb_kX (rb_w (kc := ((0 + k_8) + k_29)) (ks := ((0 + s_9) + s_30)) rfl rfl ?_))
  have hb := Bd.ade hb ea_32 eb_33
  obtain ⟨u_36, e_37, hf⟩ := rb_bd hf
  refine rb_hca C q1606 okp_java_lang_Integer e_37 dX11_applyLast_21 ?_
  obtain ⟨u_38, e_39, hf⟩ := rb_bd hf
  obtain ⟨v_41, e_42, hf⟩ := rb_bd hf
  refine rb_callV (As := []) (rest := []) C mi_J17_intValue sv_X11_39 (hp_k_isC C.pf e_39 ck_J17) (ct_J17_intValue Ev h_28 ((n + k_8) + k_29) r_27 _ e_42) rfl rfl (Nat.le_of_ble_eq_true rfl) ⟨Nat.le_of_ble_eq_true rfl, Nat.le_of_ble_eq_true rfl, hb.c0, hb.s0⟩ dX11_applyLast_24 rb_xXi (rb_kXi fun hn_40 => (rb_w (kc := ((0 + k_8) + k_29)) (ks := ((0 + s_9) + s_30)) rfl rfl ?_))
  refine rb_istore_n (lv' := [(2, .int v_41), (1, .int v_20), (0, .ref o)]) C dX11_applyLast_27 rfl (by decide) rfl ?_
  refine rb_iload_n C dX11_applyLast_28 rfl 1 rfl ?_
  refine rb_bipush (v := 126) C dX11_applyLast_29 rfl ?_
  have J_j66_44 : ∀ (w0_j66_44 : Int32) (h_j66_44 : AH) (n_j66_44 : Nat) (kc_j66_44 ks_j66_44 a_ b_ : Nat), f_X11_applyLast_j66_44 Ev o w0_j66_44 h_j66_44 n_j66_44 = some (r, h', a_, b_) → Bd (n + k) k s n_j66_44 kc_j66_44 ks_j66_44 a_ b_ → Wa Ev X (rm_X11_applyLast k s) 4 h_j66_44 n_j66_44 kc_j66_44 ks_j66_44 (rb_MQ Ev X (rm_X11_applyLast k s) (pX (.inl (none)) h' (n + k))) 66 [(0, .ref o), (1, .int v_20), (2, .int v_41)] [.int w0_j66_44] := by
    intro w0_j66_44 h_j66_44 n_j66_44 kc_j66_44 ks_j66_44 a_ b_ hf hb
    rw [f_X11_applyLast_j66_44] at hf
    refine rb_istore_n (lv' := [(3, .int w0_j66_44), (0, .ref o), (1, .int v_20), (2, .int v_41)]) C dX11_applyLast_66 rfl (by decide) rfl ?_
    refine rb_aload_n C dX11_applyLast_67 rfl 1 rfl ?_
    obtain ⟨v_45, e_46, hf⟩ := rb_bd hf
    refine rb_hP C fl_X11_10_X11 e_46 dX11_applyLast_68 ?_
    refine rb_iload_n C dX11_applyLast_71 rfl 0 rfl ?_
    obtain ⟨⟨r_48, h_49, k_50, s_51⟩, e_52, hf⟩ := rb_bd hf
    obtain ⟨a_55, b_56, hf, ea_53, eb_54⟩ := ad_at hf
    refine rb_callS (As := [.int w0_j66_44]) (rest := [.ref v_45]) C mi_J17_valueOf ss_X11_61 (ct_J17_valueOf Ev h_j66_44 n_j66_44 w0_j66_44 r_48 _ _ _ e_52) rfl rfl (Nat.le_of_ble_eq_true rfl) ⟨Nat.le_of_ble_eq_true rfl, Nat.le_of_ble_eq_true rfl, Bd.c1 hb ea_53, Bd.s1 hb eb_54⟩ dX11_applyLast_72 rb_xX (rb_kX (rb_w (kc := (kc_j66_44 + k_50)) (ks := (ks_j66_44 + s_51)) rfl rfl ?_))
    have hb := Bd.ade hb ea_53 eb_54
    obtain ⟨u_57, e_58, hf⟩ := rb_bd hf
    obtain ⟨⟨r_60, h_61, k_62, s_63⟩, e_64, hf⟩ := rb_bd hf
    obtain ⟨a_67, b_68, hf, ea_65, eb_66⟩ := ad_at hf
    refine rb_callV (As := [.ref r_48]) (rest := []) C mi_J6_push sv_X11_65 (hp_k_isC C.pf e_58 ck_J6) (ct_J6_push Ev h_49 (n_j66_44 + k_50) v_45 r_48 r_60 _ _ _ e_64) rfl rfl (Nat.le_of_ble_eq_true rfl) ⟨Nat.le_of_ble_eq_true rfl, Nat.le_of_ble_eq_true rfl, Bd.c1 hb ea_65, Bd.s1 hb eb_66⟩ dX11_applyLast_75 rb_xX (rb_kX (rb_w (kc := ((kc_j66_44 + k_50) + k_62)) (ks := ((ks_j66_44 + s_51) + s_63)) rfl rfl ?_))
    have hb := Bd.ade hb ea_65 eb_66
    cases hf
    exact rb_vret C rfl hb.e.2.1 hb.e.2.2 dX11_applyLast_78 ⟨rfl, rfl, hb.e.1⟩
  refine rb_icmp_ne (tgt := 41) C dX11_applyLast_31 (by decide) (fun c_43 => ?_) (fun c_43 => ?_)
  · have hf := (if_neg c_43).symm.trans hf
    refine rb_aload_n C dX11_applyLast_41 rfl 2 rfl ?_
    obtain ⟨v_69, e_70, hf⟩ := rb_bd hf
    refine rb_hP C fl_X11_23_X11 e_70 dX11_applyLast_42 ?_
    refine rb_iload_n C dX11_applyLast_45 rfl 1 rfl ?_
    obtain ⟨u_71, e_72, hf⟩ := rb_bd hf
    obtain ⟨⟨r_74, h_75, k_76, s_77⟩, e_78, hf⟩ := rb_bd hf
    obtain ⟨a_81, b_82, hf, ea_79, eb_80⟩ := ad_at hf
    rcases r_74 with v_83 | ⟨E_84, q_85⟩
    · dsimp only at hf
      refine rb_callV (As := [.int v_20]) (rest := []) C mi_X2_meaningOf sv_X11_49 (hp_k_isC C.pf e_72 ck_X2) (ct_X2_meaningOf Ev h_28 ((n + k_8) + k_29) v_69 v_20 (.inl v_83) _ _ _ e_78) rfl rfl (Nat.le_of_ble_eq_true rfl) ⟨Nat.le_of_ble_eq_true rfl, Nat.le_of_ble_eq_true rfl, Bd.c1 hb ea_79, Bd.s1 hb eb_80⟩ dX11_applyLast_46 rb_xX (rb_kX (r := some (.ref v_83)) (rb_w (kc := (((0 + k_8) + k_29) + k_76)) (ks := (((0 + s_9) + s_30) + s_77)) rfl rfl ?_))
      have hb := Bd.ade hb ea_79 eb_80
      refine rb_aload_n C dX11_applyLast_49 rfl 2 rfl ?_
      obtain ⟨v_86, e_87, hf⟩ := rb_bd hf
      refine rb_hP C fl_X11_10_X11 e_87 dX11_applyLast_50 ?_
      obtain ⟨u_88, e_89, hf⟩ := rb_bd hf
      obtain ⟨⟨r_91, h_92, k_93, s_94⟩, e_95, hf⟩ := rb_bd hf
      obtain ⟨a_98, b_99, hf, ea_96, eb_97⟩ := ad_at hf
      refine rb_callV (As := []) (rest := [.ref v_83]) C mi_J6_pop sv_X11_27 (hp_k_isC C.pf e_89 ck_J6) (ct_J6_pop Ev h_75 (((n + k_8) + k_29) + k_76) v_86 r_91 _ _ _ e_95) rfl rfl (Nat.le_of_ble_eq_true rfl) ⟨Nat.le_of_ble_eq_true rfl, Nat.le_of_ble_eq_true rfl, Bd.c1 hb ea_96, Bd.s1 hb eb_97⟩ dX11_applyLast_53 rb_xX (rb_kX (rb_w (kc := ((((0 + k_8) + k_29) + k_76) + k_93)) (ks := ((((0 + s_9) + s_30) + s_77) + s_94)) rfl rfl ?_))
      have hb := Bd.ade hb ea_96 eb_97
      obtain ⟨u_100, e_101, hf⟩ := rb_bd hf
      refine rb_hca C q1606 okp_java_lang_Integer e_101 dX11_applyLast_56 ?_
      obtain ⟨u_102, e_103, hf⟩ := rb_bd hf
      obtain ⟨v_105, e_106, hf⟩ := rb_bd hf
      refine rb_callV (As := []) (rest := [.ref v_83]) C mi_J17_intValue sv_X11_39 (hp_k_isC C.pf e_103 ck_J17) (ct_J17_intValue Ev h_92 ((((n + k_8) + k_29) + k_76) + k_93) r_91 _ e_106) rfl rfl (Nat.le_of_ble_eq_true rfl) ⟨Nat.le_of_ble_eq_true rfl, Nat.le_of_ble_eq_true rfl, hb.c0, hb.s0⟩ dX11_applyLast_59 rb_xXi (rb_kXi fun hn_104 => (rb_w (kc := ((((0 + k_8) + k_29) + k_76) + k_93)) (ks := ((((0 + s_9) + s_30) + s_77) + s_94)) rfl rfl ?_))
      refine rb_iload_n C dX11_applyLast_62 rfl 0 rfl ?_
      obtain ⟨k_107, e_108, hf⟩ := rb_bd hf
      suffices kk_ap : Wa Ev X (rm_X11_applyLast k s) 4 h_92 ((((n + k_8) + k_29) + k_76) + k_93) ((((0 + k_8) + k_29) + k_76) + k_93) ((((0 + s_9) + s_30) + s_77) + s_94) (rb_MQ Ev X (rm_X11_applyLast k s) (pX (.inl (none)) h' (n + k))) 66 [(2, .int v_41), (1, .int v_20), (0, .ref o)] [.int (f_enap v_83 k_107 v_105 v_41)] by
        obtain ⟨g1_ap, g2_ap⟩ := hp_en_at e_108
        rcases (show k_107 = 0 ∨ k_107 = 1 ∨ k_107 = 2 ∨ k_107 = 3 ∨ k_107 = 4 ∨ k_107 = 5 by omega) with rfl | rfl | rfl | rfl | rfl | rfl
        · exact rb_callVOR (As := [.int v_105, .int v_41]) (rest := []) C mr_X15_apply so_X11_55_X15_apply (hp_en_isC e_108) (ct_X15_apply Ev h_92 ((((n + k_8) + k_29) + k_76) + k_93) v_83 v_105 v_41 (f_enap v_83 0 v_105 v_41) rfl) rfl rfl (Nat.le_of_ble_eq_true rfl) ⟨Nat.le_of_ble_eq_true rfl, Nat.le_of_ble_eq_true rfl, hb.c0, hb.s0⟩ dX11_applyLast_63 rb_xXi (rb_kXi fun _ => rb_w (kc := ((((0 + k_8) + k_29) + k_76) + k_93)) (ks := ((((0 + s_9) + s_30) + s_77) + s_94)) rfl rfl kk_ap)
        · exact rb_callVOR (As := [.int v_105, .int v_41]) (rest := []) C mr_X16_apply so_X11_55_X16_apply (hp_en_isC e_108) (ct_X16_apply Ev h_92 ((((n + k_8) + k_29) + k_76) + k_93) v_83 v_105 v_41 (f_enap v_83 1 v_105 v_41) rfl) rfl rfl (Nat.le_of_ble_eq_true rfl) ⟨Nat.le_of_ble_eq_true rfl, Nat.le_of_ble_eq_true rfl, hb.c0, hb.s0⟩ dX11_applyLast_63 rb_xXi (rb_kXi fun _ => rb_w (kc := ((((0 + k_8) + k_29) + k_76) + k_93)) (ks := ((((0 + s_9) + s_30) + s_77) + s_94)) rfl rfl kk_ap)
        · exact rb_callVOR (As := [.int v_105, .int v_41]) (rest := []) C mr_X17_apply so_X11_55_X17_apply (hp_en_isC e_108) (ct_X17_apply Ev h_92 ((((n + k_8) + k_29) + k_76) + k_93) v_83 v_105 v_41 (f_enap v_83 2 v_105 v_41) rfl) rfl rfl (Nat.le_of_ble_eq_true rfl) ⟨Nat.le_of_ble_eq_true rfl, Nat.le_of_ble_eq_true rfl, hb.c0, hb.s0⟩ dX11_applyLast_63 rb_xXi (rb_kXi fun _ => rb_w (kc := ((((0 + k_8) + k_29) + k_76) + k_93)) (ks := ((((0 + s_9) + s_30) + s_77) + s_94)) rfl rfl kk_ap)
        · exact rb_callVOR (As := [.int v_105, .int v_41]) (rest := []) C mr_X18_apply so_X11_55_X18_apply (hp_en_isC e_108) (ct_X18_apply Ev h_92 ((((n + k_8) + k_29) + k_76) + k_93) v_83 v_105 v_41 (f_enap v_83 3 v_105 v_41) rfl) rfl rfl (Nat.le_of_ble_eq_true rfl) ⟨Nat.le_of_ble_eq_true rfl, Nat.le_of_ble_eq_true rfl, hb.c0, hb.s0⟩ dX11_applyLast_63 rb_xXi (rb_kXi fun _ => rb_w (kc := ((((0 + k_8) + k_29) + k_76) + k_93)) (ks := ((((0 + s_9) + s_30) + s_77) + s_94)) rfl rfl kk_ap)
        · exact rb_callVOR (As := [.int v_105, .int v_41]) (rest := []) C mr_X19_apply so_X11_55_X19_apply (hp_en_isC e_108) (ct_X19_apply Ev h_92 ((((n + k_8) + k_29) + k_76) + k_93) v_83 v_105 v_41 (f_enap v_83 4 v_105 v_41) rfl) rfl rfl (Nat.le_of_ble_eq_true rfl) ⟨Nat.le_of_ble_eq_true rfl, Nat.le_of_ble_eq_true rfl, hb.c0, hb.s0⟩ dX11_applyLast_63 rb_xXi (rb_kXi fun _ => rb_w (kc := ((((0 + k_8) + k_29) + k_76) + k_93)) (ks := ((((0 + s_9) + s_30) + s_77) + s_94)) rfl rfl kk_ap)
        · exact rb_callVOR (As := [.int v_105, .int v_41]) (rest := []) C mr_X20_apply so_X11_55_X20_apply (hp_en_isC e_108) (ct_X20_apply Ev h_92 ((((n + k_8) + k_29) + k_76) + k_93) v_83 v_105 v_41 (f_enap v_83 5 v_105 v_41) rfl) rfl rfl (Nat.le_of_ble_eq_true rfl) ⟨Nat.le_of_ble_eq_true rfl, Nat.le_of_ble_eq_true rfl, hb.c0, hb.s0⟩ dX11_applyLast_63 rb_xXi (rb_kXi fun _ => rb_w (kc := ((((0 + k_8) + k_29) + k_76) + k_93)) (ks := ((((0 + s_9) + s_30) + s_77) + s_94)) rfl rfl kk_ap)
      refine rb_sub [2, 1, 0] rfl ?_
      exact J_j66_44 (f_enap v_83 k_107 v_105 v_41) h_92 ((((n + k_8) + k_29) + k_76) + k_93)  _ _ _ _ hf hb
    · dsimp only at hf
      by_cases c_109 : E_84 = "java/lang/IllegalArgumentException"
      · have hf := (if_pos c_109).symm.trans hf
        subst c_109
        refine rb_callV (As := [.int v_20]) (rest := []) C mi_X2_meaningOf sv_X11_49 (hp_k_isC C.pf e_72 ck_X2) (ct_X2_meaningOf Ev h_28 ((n + k_8) + k_29) v_69 v_20 (.inr ("java/lang/IllegalArgumentException", q_85)) _ _ _ e_78) rfl rfl (Nat.le_of_ble_eq_true rfl) ⟨Nat.le_of_ble_eq_true rfl, Nat.le_of_ble_eq_true rfl, Bd.c1 hb ea_79, Bd.s1 hb eb_80⟩ dX11_applyLast_46 (rb_xY (E := "java/lang/IllegalArgumentException") (rb_wX (kc := (((0 + k_8) + k_29) + k_76)) (ks := (((0 + s_9) + s_30) + s_77)) rfl rfl ?_)) rb_kY
        have hb := Bd.ade hb ea_79 eb_80
        cases hf
      have hf := (if_neg c_109).symm.trans hf
      cases hf
  · have hf := (if_pos c_43).symm.trans hf
    refine rb_iload_n C dX11_applyLast_34 rfl 0 rfl ?_
    refine rb_callSN (As := [.int v_41]) (rest := []) C mi_X1_clouded ss_X11_43 (ct_X1_clouded Ev h_28 ((n + k_8) + k_29) v_41 _ rfl) rfl rfl (Nat.le_of_ble_eq_true rfl) ⟨Nat.le_of_ble_eq_true rfl, Nat.le_of_ble_eq_true rfl, hb.c0, hb.s0⟩ dX11_applyLast_35 rb_xXi (rb_kXi fun hn_110 => (rb_w (kc := ((0 + k_8) + k_29)) (ks := ((0 + s_9) + s_30)) rfl rfl ?_))
    refine rb_goto (tgt := 66) C dX11_applyLast_38 (by decide) ?_
    refine rb_sub [2, 1, 0] rfl ?_
    exact J_j66_44 (f_X1_clouded v_41) h_28 ((n + k_8) + k_29)  _ _ _ _ hf hb
def f_X11_applyToSun_l0_1 (Ev : rb_E) (o : Nat) : Nat → AH → Nat → Option (Unit × AH × Nat × Nat)
  | 0, _, _ => none
  | k_l0_1 + 1, h_l0_1, n_l0_1 => ((hp_p Ev h_l0_1 o 9 2).bind fun v_2 => ((hp_k Ev h_l0_1 v_2 15).bind fun u_4 => ((f_J6_isEmpty Ev h_l0_1 v_2).bind fun v_7 => (if v_7 = 0 then ((hp_p Ev h_l0_1 o 9 2).bind fun v_10 => ((hp_k Ev h_l0_1 v_10 15).bind fun u_12 => ((f_J6_peek Ev h_l0_1 v_10).bind fun v_15 => ((hp_ca Ev h_l0_1 v_15 [19]).bind fun u_17 => ((hp_k Ev h_l0_1 v_15 19).bind fun u_19 => ((f_J18_charValue Ev h_l0_1 v_15).bind fun v_22 => (if v_22 = 40 then (some ((), h_l0_1, 0, 0)) else ((hp_k Ev h_l0_1 o 9).bind fun u_25 => ((f_X11_applyLast Ev h_l0_1 n_l0_1 o).bind fun (r_28, h_29, k_30, s_31) => (ad k_30 s_31 ((f_X11_applyToSun_l0_1 Ev o k_l0_1) h_29 (n_l0_1 + k_30)))))))))))) else (some ((), h_l0_1, 0, 0))))))
def f_X11_applyToSun (Ev : rb_E) (h : AH) (n : Nat) (o : Nat) : Option (Unit × AH × Nat × Nat) := (f_X11_applyToSun_l0_1 Ev o 4096 h n)
abbrev rm_X11_applyToSun (k s : Nat) : Room := { frames := 10, cells := k, slots := s, locals := 225 }
set_option maxHeartbeats 4000000 in
theorem ct_X11_applyToSun (Ev : rb_E) (h : AH) (n : Nat) (o : Nat) (r : Unit) (h' : AH) (k s : Nat) (hf : f_X11_applyToSun Ev h n o = some (r, h', k, s)) : Ct Ev yX11_applyToSun (ws_ yX11_applyToSun cX11_applyToSun 1 none) (rm_X11_applyToSun k s) [.ref o] h n (pX (.inl (none)) h' (n + k)) := by
  rw [f_X11_applyToSun] at hf
  refine Ct.of rfl (Nat.le_of_ble_eq_true rfl) fun X C hnm => ?_
  have C : Cx Ev X RX11 cX11_applyToSun 1 none [] := C
  show Wa Ev X (rm_X11_applyToSun k s) 1 h n 0 0 (rb_MQ Ev X (rm_X11_applyToSun k s) (pX (.inl (none)) h' (n + k))) 0 [(0, .ref o)] []
  have hb : Bd (n + k) k s n 0 0 k s := ⟨rfl, Nat.le_of_eq (Nat.zero_add _), Nat.le_of_eq (Nat.zero_add _)⟩
  have L_l0_1 : ∀ (k_l0_1 : Nat) (h_l0_1 : AH) (n_l0_1 kc_l0_1 ks_l0_1 a_ b_ : Nat), f_X11_applyToSun_l0_1 Ev o k_l0_1 h_l0_1 n_l0_1 = some (r, h', a_, b_) → Bd (n + k) k s n_l0_1 kc_l0_1 ks_l0_1 a_ b_ → Wa Ev X (rm_X11_applyToSun k s) 1 h_l0_1 n_l0_1 kc_l0_1 ks_l0_1 (rb_MQ Ev X (rm_X11_applyToSun k s) (pX (.inl (none)) h' (n + k))) 0 [(0, .ref o)] [] := by
    intro k_l0_1
    induction k_l0_1 with
    | zero => intro h_l0_1 n_l0_1 kc_l0_1 ks_l0_1 a_ b_ hf hb; cases hf
    | succ k_l0_1 ih_l0_1 =>
      intro h_l0_1 n_l0_1 kc_l0_1 ks_l0_1 a_ b_ hf hb
      rw [f_X11_applyToSun_l0_1] at hf
      refine rb_aload_n C dX11_applyToSun_0 rfl 0 rfl ?_
      obtain ⟨v_2, e_3, hf⟩ := rb_bd hf
      refine rb_hP C fl_X11_16_X11 e_3 dX11_applyToSun_1 ?_
      obtain ⟨u_4, e_5, hf⟩ := rb_bd hf
      obtain ⟨v_7, e_8, hf⟩ := rb_bd hf
      refine rb_callV (As := []) (rest := []) C mi_J6_isEmpty sv_X11_69 (hp_k_isC C.pf e_5 ck_J6) (ct_J6_isEmpty Ev h_l0_1 n_l0_1 v_2 _ e_8) rfl rfl (Nat.le_of_ble_eq_true rfl) ⟨Nat.le_of_ble_eq_true rfl, Nat.le_of_ble_eq_true rfl, hb.c0, hb.s0⟩ dX11_applyToSun_4 rb_xXi (rb_kXi fun hn_6 => (rb_w (kc := kc_l0_1) (ks := ks_l0_1) rfl rfl ?_))
      refine rb_if_ne (tgt := 35) C dX11_applyToSun_7 (by decide) (fun c_9 => ?_) (fun c_9 => ?_)
      · have hf := (if_neg c_9).symm.trans hf
        cases hf
        exact rb_vret C rfl hb.e.2.1 hb.e.2.2 dX11_applyToSun_35 ⟨rfl, rfl, hb.e.1⟩
      · have hf := (if_pos c_9).symm.trans hf
        refine rb_aload_n C dX11_applyToSun_10 rfl 0 rfl ?_
        obtain ⟨v_10, e_11, hf⟩ := rb_bd hf
        refine rb_hP C fl_X11_16_X11 e_11 dX11_applyToSun_11 ?_
        obtain ⟨u_12, e_13, hf⟩ := rb_bd hf
        obtain ⟨v_15, e_16, hf⟩ := rb_bd hf
        refine rb_callV (As := []) (rest := []) C mi_J6_peek sv_X11_73 (hp_k_isC C.pf e_13 ck_J6) (ct_J6_peek Ev h_l0_1 n_l0_1 v_10 _ e_16) rfl rfl (Nat.le_of_ble_eq_true rfl) ⟨Nat.le_of_ble_eq_true rfl, Nat.le_of_ble_eq_true rfl, hb.c0, hb.s0⟩ dX11_applyToSun_14 rb_xX (rb_kX (rb_w (kc := kc_l0_1) (ks := ks_l0_1) rfl rfl ?_))
        obtain ⟨u_17, e_18, hf⟩ := rb_bd hf
        refine rb_hca C q1582 okp_java_lang_Character e_18 dX11_applyToSun_17 ?_
        obtain ⟨u_19, e_20, hf⟩ := rb_bd hf
        obtain ⟨v_22, e_23, hf⟩ := rb_bd hf
        refine rb_callV (As := []) (rest := []) C mi_J18_charValue sv_X11_33 (hp_k_isC C.pf e_20 ck_J18) (ct_J18_charValue Ev h_l0_1 n_l0_1 v_15 _ e_23) rfl rfl (Nat.le_of_ble_eq_true rfl) ⟨Nat.le_of_ble_eq_true rfl, Nat.le_of_ble_eq_true rfl, hb.c0, hb.s0⟩ dX11_applyToSun_20 rb_xXi (rb_kXi fun hn_21 => (rb_w (kc := kc_l0_1) (ks := ks_l0_1) rfl rfl ?_))
        refine rb_bipush (v := 40) C dX11_applyToSun_23 rfl ?_
        refine rb_icmp_eq (tgt := 35) C dX11_applyToSun_25 (by decide) (fun c_24 => ?_) (fun c_24 => ?_)
        · have hf := (if_pos c_24).symm.trans hf
          cases hf
          exact rb_vret C rfl hb.e.2.1 hb.e.2.2 dX11_applyToSun_35 ⟨rfl, rfl, hb.e.1⟩
        · have hf := (if_neg c_24).symm.trans hf
          refine rb_aload_n C dX11_applyToSun_28 rfl 0 rfl ?_
          obtain ⟨u_25, e_26, hf⟩ := rb_bd hf
          obtain ⟨⟨r_28, h_29, k_30, s_31⟩, e_32, hf⟩ := rb_bd hf
          obtain ⟨a_35, b_36, hf, ea_33, eb_34⟩ := ad_at hf
          refine rb_callV (As := []) (rest := []) C mi_X11_applyLast sv_X11_84 (hp_k_isC C.pf e_26 ck_X11) (ct_X11_applyLast Ev h_l0_1 n_l0_1 o r_28 _ _ _ e_32) rfl rfl (Nat.le_of_ble_eq_true rfl) ⟨Nat.le_of_ble_eq_true rfl, Nat.le_of_ble_eq_true rfl, Bd.c1 hb ea_33, Bd.s1 hb eb_34⟩ dX11_applyToSun_29 rb_xX (rb_kX (rb_w (kc := (kc_l0_1 + k_30)) (ks := (ks_l0_1 + s_31)) rfl rfl ?_))
          have hb := Bd.ade hb ea_33 eb_34
          refine rb_goto (tgt := 0) C dX11_applyToSun_32 (by decide) ?_
          exact ih_l0_1 h_29 (n_l0_1 + k_30) _ _ _ _ hf hb
  exact L_l0_1 4096 h n _ _ _ _ hf hb
def f_J18_init (Ev : rb_E) (h : AH) (n : Nat) (o : Nat) (x1 : Int32) : Option (Unit × AH × Nat × Nat) := (if narrow .char (.int x1) = .int x1 ∧ fits .char (.int x1) = true then ((hp_put h o 19 0 (.int x1)).bind fun h_2 => (some ((), h_2, 0, 0))) else none)
abbrev rm_J18_init (k s : Nat) : Room := { frames := 1, cells := k, slots := s, locals := 40 }
set_option maxHeartbeats 4000000 in
theorem ct_J18_init (Ev : rb_E) (h : AH) (n : Nat) (o : Nat) (x1 : Int32) (r : Unit) (h' : AH) (k s : Nat) (hf : f_J18_init Ev h n o x1 = some (r, h', k, s)) : Ct Ev yJ18_init (ws_ yJ18_init cJ18_init 2 none) (rm_J18_init k s) [.ref o, .int x1] h n (pX (.inl (none)) h' (n + k)) := by
  rw [f_J18_init] at hf
  refine Ct.of rfl (Nat.le_of_ble_eq_true rfl) fun X C hnm => ?_
  have C : Cx Ev X RJ18 cJ18_init 2 none [] := C
  show Wa Ev X (rm_J18_init k s) 2 h n 0 0 (rb_MQ Ev X (rm_J18_init k s) (pX (.inl (none)) h' (n + k))) 0 [(0, .ref o), (1, .int x1)] []
  have hb : Bd (n + k) k s n 0 0 k s := ⟨rfl, Nat.le_of_eq (Nat.zero_add _), Nat.le_of_eq (Nat.zero_add _)⟩
  refine rb_aload_n C dJ18_init_0 rfl 0 rfl ?_
  refine rb_objInit C q1630 q123 q124 dJ18_init_1 (Nat.le_of_ble_eq_true rfl) (Nat.le_of_ble_eq_true rfl) ?_
  refine rb_aload_n C dJ18_init_4 rfl 0 rfl ?_
  refine rb_iload_n C dJ18_init_5 rfl 1 rfl ?_
  by_cases c_g_1 : narrow .char (.int x1) = .int x1 ∧ fits .char (.int x1) = true
  rotate_left
  · exact absurd ((if_neg c_g_1).symm.trans hf) (fun z => by cases z)
  have hf := (if_pos c_g_1).symm.trans hf
  obtain ⟨h_2, e_3, hf⟩ := rb_bd hf
  refine rb_hputF C ff_J18_19_J18 hnm e_3 c_g_1.1 c_g_1.2 dJ18_init_6 ?_
  cases hf
  exact rb_vret C rfl hb.e.2.1 hb.e.2.2 dJ18_init_9 ⟨rfl, rfl, hb.e.1⟩
def f_J18_valueOf (Ev : rb_E) (h : AH) (n : Nat) (x0 : Int32) : Option (Nat × AH × Nat × Nat) := (if 127 < x0 then (ad 1 1 (rb_lt (va_up h n (some (.inr (19, [.int 0])))) fun h_6 => ((f_J18_init Ev h_6 (n + 1) n x0).bind fun (r_8, h_9, k_10, s_11) => (ad k_10 s_11 (some (n, h_9, 0, 0)))))) else ((hp_sp Ev "java/lang/Character$CharacterCache" "cache").bind fun v_17 => ((hp_ap Ev h 10 v_17 x0).bind fun v_19 => (some (v_19, h, 0, 0)))))
abbrev rm_J18_valueOf (k s : Nat) : Room := { frames := 2, cells := k, slots := s, locals := 61 }
set_option maxHeartbeats 4000000 in
theorem ct_J18_valueOf (Ev : rb_E) (h : AH) (n : Nat) (x0 : Int32) (r : Nat) (h' : AH) (k s : Nat) (hf : f_J18_valueOf Ev h n x0 = some (r, h', k, s)) : Ct Ev yJ18_valueOf (ws_ yJ18_valueOf cJ18_valueOf 1 (some (.object "java/lang/Character"))) (rm_J18_valueOf k s) [.int x0] h n (pX (.inl (some (.ref r))) h' (n + k)) := by
  rw [f_J18_valueOf] at hf
  refine Ct.of rfl (Nat.le_of_ble_eq_true rfl) fun X C hnm => ?_
  have C : Cx Ev X RJ18 cJ18_valueOf 1 (some (.object "java/lang/Character")) [] := C
  show Wa Ev X (rm_J18_valueOf k s) 1 h n 0 0 (rb_MQ Ev X (rm_J18_valueOf k s) (pX (.inl (some (.ref r))) h' (n + k))) 0 [(0, .int x0)] []
  have hb : Bd (n + k) k s n 0 0 k s := ⟨rfl, Nat.le_of_eq (Nat.zero_add _), Nat.le_of_eq (Nat.zero_add _)⟩
  refine rb_iload_n C dJ18_valueOf_0 rfl 0 rfl ?_
  refine rb_bipush (v := 127) C dJ18_valueOf_1 rfl ?_
  refine rb_icmp_gt (tgt := 12) C dJ18_valueOf_3 (by decide) (fun c_1 => ?_) (fun c_1 => ?_)
  · have hf := (if_pos c_1).symm.trans hf
    obtain ⟨a_4, b_5, hf, ea_2, eb_3⟩ := ad_at hf
    refine rb_hnew C ck_J18 q1625 q1626 q93 [.int 0] rfl (Bd.c1 hb ea_2) (Bd.s1 hb eb_3) dJ18_valueOf_12 ?_
    have hb := Bd.ade hb ea_2 eb_3
    obtain ⟨h_6, e_h_6⟩ : ∃ z, z = (va_up h n (some (.inr (19, [.int 0])))) := ⟨_, rfl⟩
    rw [← e_h_6]
    have hf := rb_let hf e_h_6
    refine rb_dup C dJ18_valueOf_15 rfl ?_
    refine rb_iload_n C dJ18_valueOf_16 rfl 0 rfl ?_
    obtain ⟨⟨r_8, h_9, k_10, s_11⟩, e_12, hf⟩ := rb_bd hf
    obtain ⟨a_15, b_16, hf, ea_13, eb_14⟩ := ad_at hf
    refine rb_callI (As := [.int x0]) (rest := [.ref n]) C mi_J18_init si_J18_53 (ct_J18_init Ev h_6 (n + 1) n x0 r_8 _ _ _ e_12) rfl rfl (Nat.le_of_ble_eq_true rfl) ⟨Nat.le_of_ble_eq_true rfl, Nat.le_of_ble_eq_true rfl, Bd.c1 hb ea_13, Bd.s1 hb eb_14⟩ dJ18_valueOf_17 rb_xX (rb_kX (rb_w (kc := ((0 + 1) + k_10)) (ks := ((0 + 1) + s_11)) rfl rfl ?_))
    have hb := Bd.ade hb ea_13 eb_14
    cases hf
    exact rb_aret C rfl (Or.inl ⟨_, rfl⟩) (Or.inr ⟨_, rfl⟩) hb.e.2.1 hb.e.2.2 dJ18_valueOf_20 ⟨rfl, rfl, hb.e.1⟩
  · have hf := (if_neg c_1).symm.trans hf
    obtain ⟨v_17, e_18, hf⟩ := rb_bd hf
    refine rb_hsp C q1623 q1624 e_18 dJ18_valueOf_6 ?_
    refine rb_iload_n C dJ18_valueOf_9 rfl 0 rfl ?_
    obtain ⟨v_19, e_20, hf⟩ := rb_bd hf
    refine rb_hap C 10 rfl rfl e_20 dJ18_valueOf_10 ?_
    cases hf
    exact rb_aret C rfl (Or.inl ⟨_, rfl⟩) (Or.inr ⟨_, rfl⟩) hb.e.2.1 hb.e.2.2 dJ18_valueOf_11 ⟨rfl, rfl, hb.e.1⟩
def f_X11_isAppliedAheadOf_j28_9 (Ev : rb_E) (o : Nat) (x1 : Int32) (h : AH) (n : Nat) (w0_j28_9 : Int32) : Option (Int32 × AH × Nat × Nat) := (if w0_j28_9 = 40 then (some (0, h, 0, 0)) else ((hp_p Ev h o 9 0).bind fun v_11 => ((hp_k Ev h v_11 1).bind fun u_13 => ((f_X2_colourOf Ev h n v_11 x1).bind fun (r_16, h_17, k_18, s_19) => (ad k_18 s_19 (match r_16 with | .inl v_25 => ((hp_p Ev h_17 o 9 0).bind fun v_28 => ((hp_k Ev h_17 v_28 1).bind fun u_30 => ((f_X2_colourOf Ev h_17 (n + k_18) v_28 w0_j28_9).bind fun (r_33, h_34, k_35, s_36) => (ad k_35 s_36 (match r_33 with | .inl v_42 => (if v_25 < v_42 then (some (1, h_34, 0, 0)) else (if v_42 = v_25 then (if w0_j28_9 = 126 then (some (1, h_34, 0, 0)) else ((hp_p Ev h_34 o 9 0).bind fun v_48 => ((hp_p Ev h_34 v_48 1 3).bind fun v_50 => ((hp_zl Ev h_34 v_50 v_25).bind fun v_52 => (if v_52 = 0 then (some (1, h_34, 0, 0)) else (some (0, h_34, 0, 0))))))) else (some (0, h_34, 0, 0)))) | .inr (E_43, q_44) => (if E_43 = "java/lang/IllegalArgumentException" then none else none)))))) | .inr (E_26, q_27) => (if E_26 = "java/lang/IllegalArgumentException" then none else none)))))))
def f_X11_isAppliedAheadOf (Ev : rb_E) (h : AH) (n : Nat) (o : Nat) (x1 : Int32) : Option (Int32 × AH × Nat × Nat) := ((hp_p Ev h o 9 2).bind fun v_1 => ((hp_k Ev h v_1 15).bind fun u_3 => ((f_J6_isEmpty Ev h v_1).bind fun v_6 => (if v_6 = 0 then ((hp_p Ev h o 9 2).bind fun v_57 => ((hp_k Ev h v_57 15).bind fun u_59 => ((f_J6_peek Ev h v_57).bind fun v_62 => ((hp_ca Ev h v_62 [19]).bind fun u_64 => ((hp_k Ev h v_62 19).bind fun u_66 => ((f_J18_charValue Ev h v_62).bind fun v_69 => (f_X11_isAppliedAheadOf_j28_9 Ev o x1 h n v_69))))))) else (f_X11_isAppliedAheadOf_j28_9 Ev o x1 h n 40)))))
abbrev rm_X11_isAppliedAheadOf (k s : Nat) : Room := { frames := 9, cells := k, slots := s, locals := 202 }
set_option maxHeartbeats 4000000 in
theorem ct_X11_isAppliedAheadOf (Ev : rb_E) (h : AH) (n : Nat) (o : Nat) (x1 : Int32) (r : Int32) (h' : AH) (k s : Nat) (hf : f_X11_isAppliedAheadOf Ev h n o x1 = some (r, h', k, s)) : Ct Ev yX11_isAppliedAheadOf (ws_ yX11_isAppliedAheadOf cX11_isAppliedAheadOf 5 (some .boolean)) (rm_X11_isAppliedAheadOf k s) [.ref o, .int x1] h n (pXi .boolean r h' (n + k)) := by
  rw [f_X11_isAppliedAheadOf] at hf
  refine Ct.of rfl (Nat.le_of_ble_eq_true rfl) fun X C hnm => ?_
  have C : Cx Ev X RX11 cX11_isAppliedAheadOf 5 (some .boolean) [] := C
  show Wa Ev X (rm_X11_isAppliedAheadOf k s) 5 h n 0 0 (rb_MQ Ev X (rm_X11_isAppliedAheadOf k s) (pXi .boolean r h' (n + k))) 0 [(0, .ref o), (1, .int x1)] []
  have hb : Bd (n + k) k s n 0 0 k s := ⟨rfl, Nat.le_of_eq (Nat.zero_add _), Nat.le_of_eq (Nat.zero_add _)⟩
  refine rb_aload_n C dX11_isAppliedAheadOf_0 rfl 0 rfl ?_
  obtain ⟨v_1, e_2, hf⟩ := rb_bd hf
  refine rb_hP C fl_X11_16_X11 e_2 dX11_isAppliedAheadOf_1 ?_
  obtain ⟨u_3, e_4, hf⟩ := rb_bd hf
  obtain ⟨v_6, e_7, hf⟩ := rb_bd hf
  refine rb_callV (As := []) (rest := []) C mi_J6_isEmpty sv_X11_69 (hp_k_isC C.pf e_4 ck_J6) (ct_J6_isEmpty Ev h n v_1 _ e_7) rfl rfl (Nat.le_of_ble_eq_true rfl) ⟨Nat.le_of_ble_eq_true rfl, Nat.le_of_ble_eq_true rfl, hb.c0, hb.s0⟩ dX11_isAppliedAheadOf_4 rb_xXi (rb_kXi fun hn_5 => (rb_w (kc := 0) (ks := 0) rfl rfl ?_))
  have J_j28_9 : ∀ (w0_j28_9 : Int32) (kc_j28_9 ks_j28_9 a_ b_ : Nat), f_X11_isAppliedAheadOf_j28_9 Ev o x1 h n w0_j28_9 = some (r, h', a_, b_) → Bd (n + k) k s n kc_j28_9 ks_j28_9 a_ b_ → Wa Ev X (rm_X11_isAppliedAheadOf k s) 5 h n kc_j28_9 ks_j28_9 (rb_MQ Ev X (rm_X11_isAppliedAheadOf k s) (pXi .boolean r h' (n + k))) 28 [(0, .ref o), (1, .int x1)] [.int w0_j28_9] := by
    intro w0_j28_9 kc_j28_9 ks_j28_9 a_ b_ hf hb
    rw [f_X11_isAppliedAheadOf_j28_9] at hf
    refine rb_istore_n (lv' := [(2, .int w0_j28_9), (0, .ref o), (1, .int x1)]) C dX11_isAppliedAheadOf_28 rfl (by decide) rfl ?_
    refine rb_iload_n C dX11_isAppliedAheadOf_29 rfl 0 rfl ?_
    refine rb_bipush (v := 40) C dX11_isAppliedAheadOf_30 rfl ?_
    refine rb_icmp_ne (tgt := 37) C dX11_isAppliedAheadOf_32 (by decide) (fun c_10 => ?_) (fun c_10 => ?_)
    · have hf := (if_neg c_10).symm.trans hf
      refine rb_aload_n C dX11_isAppliedAheadOf_37 rfl 1 rfl ?_
      obtain ⟨v_11, e_12, hf⟩ := rb_bd hf
      refine rb_hP C fl_X11_23_X11 e_12 dX11_isAppliedAheadOf_38 ?_
      refine rb_iload_n C dX11_isAppliedAheadOf_41 rfl 2 rfl ?_
      obtain ⟨u_13, e_14, hf⟩ := rb_bd hf
      obtain ⟨⟨r_16, h_17, k_18, s_19⟩, e_20, hf⟩ := rb_bd hf
      obtain ⟨a_23, b_24, hf, ea_21, eb_22⟩ := ad_at hf
      rcases r_16 with v_25 | ⟨E_26, q_27⟩
      · dsimp only at hf
        refine rb_callV (As := [.int x1]) (rest := []) C mi_X2_colourOf sv_X11_76 (hp_k_isC C.pf e_14 ck_X2) (ct_X2_colourOf Ev h n v_11 x1 (.inl v_25) _ _ _ e_20) rfl rfl (Nat.le_of_ble_eq_true rfl) ⟨Nat.le_of_ble_eq_true rfl, Nat.le_of_ble_eq_true rfl, Bd.c1 hb ea_21, Bd.s1 hb eb_22⟩ dX11_isAppliedAheadOf_42 rb_xX (rb_kX (r := some (.int v_25)) (rb_w (kc := (kc_j28_9 + k_18)) (ks := (ks_j28_9 + s_19)) rfl rfl ?_))
        have hb := Bd.ade hb ea_21 eb_22
        refine rb_istore_n (lv' := [(3, .int v_25), (2, .int w0_j28_9), (0, .ref o), (1, .int x1)]) C dX11_isAppliedAheadOf_45 rfl (by decide) rfl ?_
        refine rb_aload_n C dX11_isAppliedAheadOf_46 rfl 2 rfl ?_
        obtain ⟨v_28, e_29, hf⟩ := rb_bd hf
        refine rb_hP C fl_X11_23_X11 e_29 dX11_isAppliedAheadOf_47 ?_
        refine rb_iload_n C dX11_isAppliedAheadOf_50 rfl 1 rfl ?_
        obtain ⟨u_30, e_31, hf⟩ := rb_bd hf
        obtain ⟨⟨r_33, h_34, k_35, s_36⟩, e_37, hf⟩ := rb_bd hf
        obtain ⟨a_40, b_41, hf, ea_38, eb_39⟩ := ad_at hf
        rcases r_33 with v_42 | ⟨E_43, q_44⟩
        · dsimp only at hf
          refine rb_callV (As := [.int w0_j28_9]) (rest := []) C mi_X2_colourOf sv_X11_76 (hp_k_isC C.pf e_31 ck_X2) (ct_X2_colourOf Ev h_17 (n + k_18) v_28 w0_j28_9 (.inl v_42) _ _ _ e_37) rfl rfl (Nat.le_of_ble_eq_true rfl) ⟨Nat.le_of_ble_eq_true rfl, Nat.le_of_ble_eq_true rfl, Bd.c1 hb ea_38, Bd.s1 hb eb_39⟩ dX11_isAppliedAheadOf_51 rb_xX (rb_kX (r := some (.int v_42)) (rb_w (kc := ((kc_j28_9 + k_18) + k_35)) (ks := ((ks_j28_9 + s_19) + s_36)) rfl rfl ?_))
          have hb := Bd.ade hb ea_38 eb_39
          refine rb_istore (lv' := [(4, .int v_42), (3, .int v_25), (2, .int w0_j28_9), (0, .ref o), (1, .int x1)]) C dX11_isAppliedAheadOf_54 (by decide) rfl ?_
          refine rb_iload C dX11_isAppliedAheadOf_56 0 rfl ?_
          refine rb_iload_n C dX11_isAppliedAheadOf_58 rfl 1 rfl ?_
          refine rb_icmp_gt (tgt := 86) C dX11_isAppliedAheadOf_59 (by decide) (fun c_45 => ?_) (fun c_45 => ?_)
          · have hf := (if_pos c_45).symm.trans hf
            refine rb_iconst (v := 1) C dX11_isAppliedAheadOf_86 rfl ?_
            refine rb_goto (tgt := 91) C dX11_isAppliedAheadOf_87 (by decide) ?_
            cases hf
            exact rb_iret C rfl rfl hb.e.2.1 hb.e.2.2 dX11_isAppliedAheadOf_91 ⟨rfl, rfl, hb.e.1, rfl⟩
          · have hf := (if_neg c_45).symm.trans hf
            refine rb_iload C dX11_isAppliedAheadOf_62 0 rfl ?_
            refine rb_iload_n C dX11_isAppliedAheadOf_64 rfl 1 rfl ?_
            refine rb_icmp_ne (tgt := 90) C dX11_isAppliedAheadOf_65 (by decide) (fun c_46 => ?_) (fun c_46 => ?_)
            · have hf := (if_neg c_46).symm.trans hf
              refine rb_iconst (v := 0) C dX11_isAppliedAheadOf_90 rfl ?_
              cases hf
              exact rb_iret C rfl rfl hb.e.2.1 hb.e.2.2 dX11_isAppliedAheadOf_91 ⟨rfl, rfl, hb.e.1, rfl⟩
            · have hf := (if_pos c_46).symm.trans hf
              refine rb_iload_n C dX11_isAppliedAheadOf_68 rfl 2 rfl ?_
              refine rb_bipush (v := 126) C dX11_isAppliedAheadOf_69 rfl ?_
              refine rb_icmp_eq (tgt := 86) C dX11_isAppliedAheadOf_71 (by decide) (fun c_47 => ?_) (fun c_47 => ?_)
              · have hf := (if_pos c_47).symm.trans hf
                refine rb_iconst (v := 1) C dX11_isAppliedAheadOf_86 rfl ?_
                refine rb_goto (tgt := 91) C dX11_isAppliedAheadOf_87 (by decide) ?_
                cases hf
                exact rb_iret C rfl rfl hb.e.2.1 hb.e.2.2 dX11_isAppliedAheadOf_91 ⟨rfl, rfl, hb.e.1, rfl⟩
              · have hf := (if_neg c_47).symm.trans hf
                refine rb_aload_n C dX11_isAppliedAheadOf_74 rfl 3 rfl ?_
                obtain ⟨v_48, e_49, hf⟩ := rb_bd hf
                refine rb_hP C fl_X11_23_X11 e_49 dX11_isAppliedAheadOf_75 ?_
                obtain ⟨v_50, e_51, hf⟩ := rb_bd hf
                refine rb_hP C fl_X11_80_X2 e_51 dX11_isAppliedAheadOf_78 ?_
                refine rb_iload_n C dX11_isAppliedAheadOf_81 rfl 1 rfl ?_
                obtain ⟨v_52, e_53, hf⟩ := rb_bd hf
                refine rb_hzl C e_53 dX11_isAppliedAheadOf_82 ?_
                refine rb_if_ne (tgt := 90) C dX11_isAppliedAheadOf_83 (by decide) (fun c_54 => ?_) (fun c_54 => ?_)
                · have hf := (if_neg c_54).symm.trans hf
                  refine rb_iconst (v := 0) C dX11_isAppliedAheadOf_90 rfl ?_
                  cases hf
                  exact rb_iret C rfl rfl hb.e.2.1 hb.e.2.2 dX11_isAppliedAheadOf_91 ⟨rfl, rfl, hb.e.1, rfl⟩
                · have hf := (if_pos c_54).symm.trans hf
                  refine rb_iconst (v := 1) C dX11_isAppliedAheadOf_86 rfl ?_
                  refine rb_goto (tgt := 91) C dX11_isAppliedAheadOf_87 (by decide) ?_
                  cases hf
                  exact rb_iret C rfl rfl hb.e.2.1 hb.e.2.2 dX11_isAppliedAheadOf_91 ⟨rfl, rfl, hb.e.1, rfl⟩
        · dsimp only at hf
          by_cases c_55 : E_43 = "java/lang/IllegalArgumentException"
          · have hf := (if_pos c_55).symm.trans hf
            subst c_55
            refine rb_callV (As := [.int w0_j28_9]) (rest := []) C mi_X2_colourOf sv_X11_76 (hp_k_isC C.pf e_31 ck_X2) (ct_X2_colourOf Ev h_17 (n + k_18) v_28 w0_j28_9 (.inr ("java/lang/IllegalArgumentException", q_44)) _ _ _ e_37) rfl rfl (Nat.le_of_ble_eq_true rfl) ⟨Nat.le_of_ble_eq_true rfl, Nat.le_of_ble_eq_true rfl, Bd.c1 hb ea_38, Bd.s1 hb eb_39⟩ dX11_isAppliedAheadOf_51 (rb_xY (E := "java/lang/IllegalArgumentException") (rb_wX (kc := ((kc_j28_9 + k_18) + k_35)) (ks := ((ks_j28_9 + s_19) + s_36)) rfl rfl ?_)) rb_kY
            have hb := Bd.ade hb ea_38 eb_39
            cases hf
          have hf := (if_neg c_55).symm.trans hf
          cases hf
      · dsimp only at hf
        by_cases c_56 : E_26 = "java/lang/IllegalArgumentException"
        · have hf := (if_pos c_56).symm.trans hf
          subst c_56
          refine rb_callV (As := [.int x1]) (rest := []) C mi_X2_colourOf sv_X11_76 (hp_k_isC C.pf e_14 ck_X2) (ct_X2_colourOf Ev h n v_11 x1 (.inr ("java/lang/IllegalArgumentException", q_27)) _ _ _ e_20) rfl rfl (Nat.le_of_ble_eq_true rfl) ⟨Nat.le_of_ble_eq_true rfl, Nat.le_of_ble_eq_true rfl, Bd.c1 hb ea_21, Bd.s1 hb eb_22⟩ dX11_isAppliedAheadOf_42 (rb_xY (E := "java/lang/IllegalArgumentException") (rb_wX (kc := (kc_j28_9 + k_18)) (ks := (ks_j28_9 + s_19)) rfl rfl ?_)) rb_kY
          have hb := Bd.ade hb ea_21 eb_22
          cases hf
        have hf := (if_neg c_56).symm.trans hf
        cases hf
    · have hf := (if_pos c_10).symm.trans hf
      refine rb_iconst (v := 0) C dX11_isAppliedAheadOf_35 rfl ?_
      cases hf
      exact rb_iret C rfl rfl hb.e.2.1 hb.e.2.2 dX11_isAppliedAheadOf_36 ⟨rfl, rfl, hb.e.1, rfl⟩
  refine rb_if_eq (tgt := 15) C dX11_isAppliedAheadOf_7 (by decide) (fun c_8 => ?_) (fun c_8 => ?_)
  · have hf := (if_pos c_8).symm.trans hf
    refine rb_aload_n C dX11_isAppliedAheadOf_15 rfl 0 rfl ?_
    obtain ⟨v_57, e_58, hf⟩ := rb_bd hf
    refine rb_hP C fl_X11_16_X11 e_58 dX11_isAppliedAheadOf_16 ?_
    obtain ⟨u_59, e_60, hf⟩ := rb_bd hf
    obtain ⟨v_62, e_63, hf⟩ := rb_bd hf
    refine rb_callV (As := []) (rest := []) C mi_J6_peek sv_X11_73 (hp_k_isC C.pf e_60 ck_J6) (ct_J6_peek Ev h n v_57 _ e_63) rfl rfl (Nat.le_of_ble_eq_true rfl) ⟨Nat.le_of_ble_eq_true rfl, Nat.le_of_ble_eq_true rfl, hb.c0, hb.s0⟩ dX11_isAppliedAheadOf_19 rb_xX (rb_kX (rb_w (kc := 0) (ks := 0) rfl rfl ?_))
    obtain ⟨u_64, e_65, hf⟩ := rb_bd hf
    refine rb_hca C q1582 okp_java_lang_Character e_65 dX11_isAppliedAheadOf_22 ?_
    obtain ⟨u_66, e_67, hf⟩ := rb_bd hf
    obtain ⟨v_69, e_70, hf⟩ := rb_bd hf
    refine rb_callV (As := []) (rest := []) C mi_J18_charValue sv_X11_33 (hp_k_isC C.pf e_67 ck_J18) (ct_J18_charValue Ev h n v_62 _ e_70) rfl rfl (Nat.le_of_ble_eq_true rfl) ⟨Nat.le_of_ble_eq_true rfl, Nat.le_of_ble_eq_true rfl, hb.c0, hb.s0⟩ dX11_isAppliedAheadOf_25 rb_xXi (rb_kXi fun hn_68 => (rb_w (kc := 0) (ks := 0) rfl rfl ?_))
    exact J_j28_9 v_69  _ _ _ _ hf hb
  · have hf := (if_neg c_8).symm.trans hf
    refine rb_bipush (v := 40) C dX11_isAppliedAheadOf_10 rfl ?_
    refine rb_goto (tgt := 28) C dX11_isAppliedAheadOf_12 (by decide) ?_
    exact J_j28_9 40  _ _ _ _ hf hb
def f_X11_read_l55_4 (Ev : rb_E) (o : Nat) (x1 : Int32) : Nat → AH → Nat → Option (Unit × AH × Nat × Nat)
  | 0, _, _ => none
  | k_l55_4 + 1, h_l55_4, n_l55_4 => ((f_X1_isOperator Ev h_l55_4 x1).bind fun v_6 => (if v_6 = 0 then ((hp_p Ev h_l55_4 o 9 2).bind fun v_9 => ((f_J18_valueOf Ev h_l55_4 n_l55_4 x1).bind fun (r_12, h_13, k_14, s_15) => (ad k_14 s_15 ((hp_k Ev h_13 v_9 15).bind fun u_21 => ((f_J6_push Ev h_13 (n_l55_4 + k_14) v_9 r_12).bind fun (r_24, h_25, k_26, s_27) => (ad k_26 s_27 (some ((), h_25, 0, 0)))))))) else ((hp_k Ev h_l55_4 o 9).bind fun u_33 => ((f_X11_isAppliedAheadOf Ev h_l55_4 n_l55_4 o x1).bind fun (r_36, h_37, k_38, s_39) => (ad k_38 s_39 (if r_36 = 0 then ((hp_p Ev h_37 o 9 2).bind fun v_46 => ((f_J18_valueOf Ev h_37 (n_l55_4 + k_38) x1).bind fun (r_49, h_50, k_51, s_52) => (ad k_51 s_52 ((hp_k Ev h_50 v_46 15).bind fun u_58 => ((f_J6_push Ev h_50 ((n_l55_4 + k_38) + k_51) v_46 r_49).bind fun (r_61, h_62, k_63, s_64) => (ad k_63 s_64 (some ((), h_62, 0, 0)))))))) else ((hp_k Ev h_37 o 9).bind fun u_70 => ((f_X11_applyLast Ev h_37 (n_l55_4 + k_38) o).bind fun (r_73, h_74, k_75, s_76) => (ad k_75 s_76 ((f_X11_read_l55_4 Ev o x1 k_l55_4) h_74 ((n_l55_4 + k_38) + k_75)))))))))))
def f_X11_read (Ev : rb_E) (h : AH) (n : Nat) (o : Nat) (x1 : Int32) : Option (Unit × AH × Nat × Nat) := (if (f_X1_isOperand x1) = 0 then (if x1 = 41 then ((hp_k Ev h o 9).bind fun u_82 => ((f_X11_applyToSun Ev h n o).bind fun (r_85, h_86, k_87, s_88) => (ad k_87 s_88 ((hp_p Ev h_86 o 9 2).bind fun v_94 => ((hp_k Ev h_86 v_94 15).bind fun u_96 => ((f_J6_pop Ev h_86 (n + k_87) v_94).bind fun (r_99, h_100, k_101, s_102) => (ad k_101 s_102 ((hp_ca Ev h_100 r_99 [19]).bind fun u_108 => ((hp_k Ev h_100 r_99 19).bind fun u_110 => ((f_J18_charValue Ev h_100 r_99).bind fun v_113 => (some ((), h_100, 0, 0)))))))))))) else (f_X11_read_l55_4 Ev o x1 4096 h n)) else ((hp_p Ev h o 9 1).bind fun v_115 => ((hp_p Ev h o 9 0).bind fun v_117 => ((hp_k Ev h v_117 1).bind fun u_119 => ((f_X2_valueOf Ev h v_117 x1).bind fun v_122 => ((f_J17_valueOf Ev h n v_122).bind fun (r_125, h_126, k_127, s_128) => (ad k_127 s_128 ((hp_k Ev h_126 v_115 15).bind fun u_134 => ((f_J6_push Ev h_126 (n + k_127) v_115 r_125).bind fun (r_137, h_138, k_139, s_140) => (ad k_139 s_140 (some ((), h_138, 0, 0))))))))))))
abbrev rm_X11_read (k s : Nat) : Room := { frames := 11, cells := k, slots := s, locals := 245 }
set_option maxHeartbeats 4000000 in
theorem ct_X11_read (Ev : rb_E) (h : AH) (n : Nat) (o : Nat) (x1 : Int32) (r : Unit) (h' : AH) (k s : Nat) (hf : f_X11_read Ev h n o x1 = some (r, h', k, s)) : Ct Ev yX11_read (ws_ yX11_read cX11_read 3 none) (rm_X11_read k s) [.ref o, .int x1] h n (pX (.inl (none)) h' (n + k)) := by
  rw [f_X11_read] at hf
  refine Ct.of rfl (Nat.le_of_ble_eq_true rfl) fun X C hnm => ?_
  have C : Cx Ev X RX11 cX11_read 3 none [] := C
  show Wa Ev X (rm_X11_read k s) 3 h n 0 0 (rb_MQ Ev X (rm_X11_read k s) (pX (.inl (none)) h' (n + k))) 0 [(0, .ref o), (1, .int x1)] []
  have hb : Bd (n + k) k s n 0 0 k s := ⟨rfl, Nat.le_of_eq (Nat.zero_add _), Nat.le_of_eq (Nat.zero_add _)⟩
  refine rb_iload_n C dX11_read_0 rfl 1 rfl ?_
  refine rb_callSN (As := [.int x1]) (rest := []) C mi_X1_isOperand ss_X11_87 (ct_X1_isOperand Ev h n x1 _ rfl) rfl rfl (Nat.le_of_ble_eq_true rfl) ⟨Nat.le_of_ble_eq_true rfl, Nat.le_of_ble_eq_true rfl, hb.c0, hb.s0⟩ dX11_read_1 rb_xXi (rb_kXi fun hn_1 => (rb_w (kc := 0) (ks := 0) rfl rfl ?_))
  refine rb_if_eq (tgt := 28) C dX11_read_4 (by decide) (fun c_2 => ?_) (fun c_2 => ?_)
  · have hf := (if_pos c_2).symm.trans hf
    refine rb_iload_n C dX11_read_28 rfl 1 rfl ?_
    refine rb_bipush (v := 41) C dX11_read_29 rfl ?_
    refine rb_icmp_ne (tgt := 55) C dX11_read_31 (by decide) (fun c_3 => ?_) (fun c_3 => ?_)
    · have hf := (if_neg c_3).symm.trans hf
      have L_l55_4 : ∀ (k_l55_4 : Nat) (h_l55_4 : AH) (n_l55_4 kc_l55_4 ks_l55_4 a_ b_ : Nat), f_X11_read_l55_4 Ev o x1 k_l55_4 h_l55_4 n_l55_4 = some (r, h', a_, b_) → Bd (n + k) k s n_l55_4 kc_l55_4 ks_l55_4 a_ b_ → Wa Ev X (rm_X11_read k s) 3 h_l55_4 n_l55_4 kc_l55_4 ks_l55_4 (rb_MQ Ev X (rm_X11_read k s) (pX (.inl (none)) h' (n + k))) 55 [(0, .ref o), (1, .int x1)] [] := by
        intro k_l55_4
        induction k_l55_4 with
        | zero => intro h_l55_4 n_l55_4 kc_l55_4 ks_l55_4 a_ b_ hf hb; cases hf
        | succ k_l55_4 ih_l55_4 =>
          intro h_l55_4 n_l55_4 kc_l55_4 ks_l55_4 a_ b_ hf hb
          rw [f_X11_read_l55_4] at hf
          refine rb_iload_n C dX11_read_55 rfl 1 rfl ?_
          obtain ⟨v_6, e_7, hf⟩ := rb_bd hf
          refine rb_callSN (As := [.int x1]) (rest := []) C mi_X1_isOperator ss_X11_96 (ct_X1_isOperator Ev h_l55_4 n_l55_4 x1 _ e_7) rfl rfl (Nat.le_of_ble_eq_true rfl) ⟨Nat.le_of_ble_eq_true rfl, Nat.le_of_ble_eq_true rfl, hb.c0, hb.s0⟩ dX11_read_56 rb_xXi (rb_kXi fun hn_5 => (rb_w (kc := kc_l55_4) (ks := ks_l55_4) rfl rfl ?_))
          refine rb_if_eq (tgt := 77) C dX11_read_59 (by decide) (fun c_8 => ?_) (fun c_8 => ?_)
          · have hf := (if_pos c_8).symm.trans hf
            refine rb_aload_n C dX11_read_77 rfl 0 rfl ?_
            obtain ⟨v_9, e_10, hf⟩ := rb_bd hf
            refine rb_hP C fl_X11_16_X11 e_10 dX11_read_78 ?_
            refine rb_iload_n C dX11_read_81 rfl 1 rfl ?_
            obtain ⟨⟨r_12, h_13, k_14, s_15⟩, e_16, hf⟩ := rb_bd hf
            obtain ⟨a_19, b_20, hf, ea_17, eb_18⟩ := ad_at hf
            refine rb_callS (As := [.int x1]) (rest := [.ref v_9]) C mi_J18_valueOf ss_X11_102 (ct_J18_valueOf Ev h_l55_4 n_l55_4 x1 r_12 _ _ _ e_16) rfl rfl (Nat.le_of_ble_eq_true rfl) ⟨Nat.le_of_ble_eq_true rfl, Nat.le_of_ble_eq_true rfl, Bd.c1 hb ea_17, Bd.s1 hb eb_18⟩ dX11_read_82 rb_xX (rb_kX (rb_w (kc := (kc_l55_4 + k_14)) (ks := (ks_l55_4 + s_15)) rfl rfl ?_))
            have hb := Bd.ade hb ea_17 eb_18
            obtain ⟨u_21, e_22, hf⟩ := rb_bd hf
            obtain ⟨⟨r_24, h_25, k_26, s_27⟩, e_28, hf⟩ := rb_bd hf
            obtain ⟨a_31, b_32, hf, ea_29, eb_30⟩ := ad_at hf
            refine rb_callV (As := [.ref r_12]) (rest := []) C mi_J6_push sv_X11_65 (hp_k_isC C.pf e_22 ck_J6) (ct_J6_push Ev h_13 (n_l55_4 + k_14) v_9 r_12 r_24 _ _ _ e_28) rfl rfl (Nat.le_of_ble_eq_true rfl) ⟨Nat.le_of_ble_eq_true rfl, Nat.le_of_ble_eq_true rfl, Bd.c1 hb ea_29, Bd.s1 hb eb_30⟩ dX11_read_85 rb_xX (rb_kX (rb_w (kc := ((kc_l55_4 + k_14) + k_26)) (ks := ((ks_l55_4 + s_15) + s_27)) rfl rfl ?_))
            have hb := Bd.ade hb ea_29 eb_30
            cases hf
            exact rb_vret C rfl hb.e.2.1 hb.e.2.2 dX11_read_88 ⟨rfl, rfl, hb.e.1⟩
          · have hf := (if_neg c_8).symm.trans hf
            refine rb_aload_n C dX11_read_62 rfl 0 rfl ?_
            refine rb_iload_n C dX11_read_63 rfl 1 rfl ?_
            obtain ⟨u_33, e_34, hf⟩ := rb_bd hf
            obtain ⟨⟨r_36, h_37, k_38, s_39⟩, e_40, hf⟩ := rb_bd hf
            obtain ⟨a_43, b_44, hf, ea_41, eb_42⟩ := ad_at hf
            refine rb_callV (As := [.int x1]) (rest := []) C mi_X11_isAppliedAheadOf sv_X11_99 (hp_k_isC C.pf e_34 ck_X11) (ct_X11_isAppliedAheadOf Ev h_l55_4 n_l55_4 o x1 r_36 _ _ _ e_40) rfl rfl (Nat.le_of_ble_eq_true rfl) ⟨Nat.le_of_ble_eq_true rfl, Nat.le_of_ble_eq_true rfl, Bd.c1 hb ea_41, Bd.s1 hb eb_42⟩ dX11_read_64 rb_xXi (rb_kXi fun hn_35 => (rb_w (kc := (kc_l55_4 + k_38)) (ks := (ks_l55_4 + s_39)) rfl rfl ?_))
            have hb := Bd.ade hb ea_41 eb_42
            refine rb_if_eq (tgt := 77) C dX11_read_67 (by decide) (fun c_45 => ?_) (fun c_45 => ?_)
            · have hf := (if_pos c_45).symm.trans hf
              refine rb_aload_n C dX11_read_77 rfl 0 rfl ?_
              obtain ⟨v_46, e_47, hf⟩ := rb_bd hf
              refine rb_hP C fl_X11_16_X11 e_47 dX11_read_78 ?_
              refine rb_iload_n C dX11_read_81 rfl 1 rfl ?_
              obtain ⟨⟨r_49, h_50, k_51, s_52⟩, e_53, hf⟩ := rb_bd hf
              obtain ⟨a_56, b_57, hf, ea_54, eb_55⟩ := ad_at hf
              refine rb_callS (As := [.int x1]) (rest := [.ref v_46]) C mi_J18_valueOf ss_X11_102 (ct_J18_valueOf Ev h_37 (n_l55_4 + k_38) x1 r_49 _ _ _ e_53) rfl rfl (Nat.le_of_ble_eq_true rfl) ⟨Nat.le_of_ble_eq_true rfl, Nat.le_of_ble_eq_true rfl, Bd.c1 hb ea_54, Bd.s1 hb eb_55⟩ dX11_read_82 rb_xX (rb_kX (rb_w (kc := ((kc_l55_4 + k_38) + k_51)) (ks := ((ks_l55_4 + s_39) + s_52)) rfl rfl ?_))
              have hb := Bd.ade hb ea_54 eb_55
              obtain ⟨u_58, e_59, hf⟩ := rb_bd hf
              obtain ⟨⟨r_61, h_62, k_63, s_64⟩, e_65, hf⟩ := rb_bd hf
              obtain ⟨a_68, b_69, hf, ea_66, eb_67⟩ := ad_at hf
              refine rb_callV (As := [.ref r_49]) (rest := []) C mi_J6_push sv_X11_65 (hp_k_isC C.pf e_59 ck_J6) (ct_J6_push Ev h_50 ((n_l55_4 + k_38) + k_51) v_46 r_49 r_61 _ _ _ e_65) rfl rfl (Nat.le_of_ble_eq_true rfl) ⟨Nat.le_of_ble_eq_true rfl, Nat.le_of_ble_eq_true rfl, Bd.c1 hb ea_66, Bd.s1 hb eb_67⟩ dX11_read_85 rb_xX (rb_kX (rb_w (kc := (((kc_l55_4 + k_38) + k_51) + k_63)) (ks := (((ks_l55_4 + s_39) + s_52) + s_64)) rfl rfl ?_))
              have hb := Bd.ade hb ea_66 eb_67
              cases hf
              exact rb_vret C rfl hb.e.2.1 hb.e.2.2 dX11_read_88 ⟨rfl, rfl, hb.e.1⟩
            · have hf := (if_neg c_45).symm.trans hf
              refine rb_aload_n C dX11_read_70 rfl 0 rfl ?_
              obtain ⟨u_70, e_71, hf⟩ := rb_bd hf
              obtain ⟨⟨r_73, h_74, k_75, s_76⟩, e_77, hf⟩ := rb_bd hf
              obtain ⟨a_80, b_81, hf, ea_78, eb_79⟩ := ad_at hf
              refine rb_callV (As := []) (rest := []) C mi_X11_applyLast sv_X11_84 (hp_k_isC C.pf e_71 ck_X11) (ct_X11_applyLast Ev h_37 (n_l55_4 + k_38) o r_73 _ _ _ e_77) rfl rfl (Nat.le_of_ble_eq_true rfl) ⟨Nat.le_of_ble_eq_true rfl, Nat.le_of_ble_eq_true rfl, Bd.c1 hb ea_78, Bd.s1 hb eb_79⟩ dX11_read_71 rb_xX (rb_kX (rb_w (kc := ((kc_l55_4 + k_38) + k_75)) (ks := ((ks_l55_4 + s_39) + s_76)) rfl rfl ?_))
              have hb := Bd.ade hb ea_78 eb_79
              refine rb_goto (tgt := 55) C dX11_read_74 (by decide) ?_
              exact ih_l55_4 h_74 ((n_l55_4 + k_38) + k_75) _ _ _ _ hf hb
      exact L_l55_4 4096 h n _ _ _ _ hf hb
    · have hf := (if_pos c_3).symm.trans hf
      refine rb_aload_n C dX11_read_34 rfl 0 rfl ?_
      obtain ⟨u_82, e_83, hf⟩ := rb_bd hf
      obtain ⟨⟨r_85, h_86, k_87, s_88⟩, e_89, hf⟩ := rb_bd hf
      obtain ⟨a_92, b_93, hf, ea_90, eb_91⟩ := ad_at hf
      refine rb_callV (As := []) (rest := []) C mi_X11_applyToSun sv_X11_93 (hp_k_isC C.pf e_83 ck_X11) (ct_X11_applyToSun Ev h n o r_85 _ _ _ e_89) rfl rfl (Nat.le_of_ble_eq_true rfl) ⟨Nat.le_of_ble_eq_true rfl, Nat.le_of_ble_eq_true rfl, Bd.c1 hb ea_90, Bd.s1 hb eb_91⟩ dX11_read_35 rb_xX (rb_kX (rb_w (kc := (0 + k_87)) (ks := (0 + s_88)) rfl rfl ?_))
      have hb := Bd.ade hb ea_90 eb_91
      refine rb_aload_n C dX11_read_38 rfl 0 rfl ?_
      obtain ⟨v_94, e_95, hf⟩ := rb_bd hf
      refine rb_hP C fl_X11_16_X11 e_95 dX11_read_39 ?_
      obtain ⟨u_96, e_97, hf⟩ := rb_bd hf
      obtain ⟨⟨r_99, h_100, k_101, s_102⟩, e_103, hf⟩ := rb_bd hf
      obtain ⟨a_106, b_107, hf, ea_104, eb_105⟩ := ad_at hf
      refine rb_callV (As := []) (rest := []) C mi_J6_pop sv_X11_27 (hp_k_isC C.pf e_97 ck_J6) (ct_J6_pop Ev h_86 (n + k_87) v_94 r_99 _ _ _ e_103) rfl rfl (Nat.le_of_ble_eq_true rfl) ⟨Nat.le_of_ble_eq_true rfl, Nat.le_of_ble_eq_true rfl, Bd.c1 hb ea_104, Bd.s1 hb eb_105⟩ dX11_read_42 rb_xX (rb_kX (rb_w (kc := ((0 + k_87) + k_101)) (ks := ((0 + s_88) + s_102)) rfl rfl ?_))
      have hb := Bd.ade hb ea_104 eb_105
      obtain ⟨u_108, e_109, hf⟩ := rb_bd hf
      refine rb_hca C q1582 okp_java_lang_Character e_109 dX11_read_45 ?_
      obtain ⟨u_110, e_111, hf⟩ := rb_bd hf
      obtain ⟨v_113, e_114, hf⟩ := rb_bd hf
      refine rb_callV (As := []) (rest := []) C mi_J18_charValue sv_X11_33 (hp_k_isC C.pf e_111 ck_J18) (ct_J18_charValue Ev h_100 ((n + k_87) + k_101) r_99 _ e_114) rfl rfl (Nat.le_of_ble_eq_true rfl) ⟨Nat.le_of_ble_eq_true rfl, Nat.le_of_ble_eq_true rfl, hb.c0, hb.s0⟩ dX11_read_48 rb_xXi (rb_kXi fun hn_112 => (rb_w (kc := ((0 + k_87) + k_101)) (ks := ((0 + s_88) + s_102)) rfl rfl ?_))
      refine rb_istore_n (lv' := [(2, .int v_113), (0, .ref o), (1, .int x1)]) C dX11_read_51 rfl (by decide) rfl ?_
      refine rb_goto (tgt := 88) C dX11_read_52 (by decide) ?_
      cases hf
      exact rb_vret C rfl hb.e.2.1 hb.e.2.2 dX11_read_88 ⟨rfl, rfl, hb.e.1⟩
  · have hf := (if_neg c_2).symm.trans hf
    refine rb_aload_n C dX11_read_7 rfl 0 rfl ?_
    obtain ⟨v_115, e_116, hf⟩ := rb_bd hf
    refine rb_hP C fl_X11_10_X11 e_116 dX11_read_8 ?_
    refine rb_aload_n C dX11_read_11 rfl 0 rfl ?_
    obtain ⟨v_117, e_118, hf⟩ := rb_bd hf
    refine rb_hP C fl_X11_23_X11 e_118 dX11_read_12 ?_
    refine rb_iload_n C dX11_read_15 rfl 1 rfl ?_
    obtain ⟨u_119, e_120, hf⟩ := rb_bd hf
    obtain ⟨v_122, e_123, hf⟩ := rb_bd hf
    refine rb_callV (As := [.int x1]) (rest := [.ref v_115]) C mi_X2_valueOf sv_X11_91 (hp_k_isC C.pf e_120 ck_X2) (ct_X2_valueOf Ev h n v_117 x1 _ e_123) rfl rfl (Nat.le_of_ble_eq_true rfl) ⟨Nat.le_of_ble_eq_true rfl, Nat.le_of_ble_eq_true rfl, hb.c0, hb.s0⟩ dX11_read_16 rb_xXi (rb_kXi fun hn_121 => (rb_w (kc := 0) (ks := 0) rfl rfl ?_))
    obtain ⟨⟨r_125, h_126, k_127, s_128⟩, e_129, hf⟩ := rb_bd hf
    obtain ⟨a_132, b_133, hf, ea_130, eb_131⟩ := ad_at hf
    refine rb_callS (As := [.int v_122]) (rest := [.ref v_115]) C mi_J17_valueOf ss_X11_61 (ct_J17_valueOf Ev h n v_122 r_125 _ _ _ e_129) rfl rfl (Nat.le_of_ble_eq_true rfl) ⟨Nat.le_of_ble_eq_true rfl, Nat.le_of_ble_eq_true rfl, Bd.c1 hb ea_130, Bd.s1 hb eb_131⟩ dX11_read_19 rb_xX (rb_kX (rb_w (kc := (0 + k_127)) (ks := (0 + s_128)) rfl rfl ?_))
    have hb := Bd.ade hb ea_130 eb_131
    obtain ⟨u_134, e_135, hf⟩ := rb_bd hf
    obtain ⟨⟨r_137, h_138, k_139, s_140⟩, e_141, hf⟩ := rb_bd hf
    obtain ⟨a_144, b_145, hf, ea_142, eb_143⟩ := ad_at hf
    refine rb_callV (As := [.ref r_125]) (rest := []) C mi_J6_push sv_X11_65 (hp_k_isC C.pf e_135 ck_J6) (ct_J6_push Ev h_126 (n + k_127) v_115 r_125 r_137 _ _ _ e_141) rfl rfl (Nat.le_of_ble_eq_true rfl) ⟨Nat.le_of_ble_eq_true rfl, Nat.le_of_ble_eq_true rfl, Bd.c1 hb ea_142, Bd.s1 hb eb_143⟩ dX11_read_22 rb_xX (rb_kX (rb_w (kc := ((0 + k_127) + k_139)) (ks := ((0 + s_128) + s_140)) rfl rfl ?_))
    have hb := Bd.ade hb ea_142 eb_143
    refine rb_goto (tgt := 88) C dX11_read_25 (by decide) ?_
    cases hf
    exact rb_vret C rfl hb.e.2.1 hb.e.2.2 dX11_read_88 ⟨rfl, rfl, hb.e.1⟩
def f_X11_compute_l2_1 (Ev : rb_E) (o : Nat) : Nat → Int32 → AH → Nat → Option (Int32 × AH × Nat × Nat)
  | 0, _, _, _ => none
  | k_l2_1 + 1, y1_l2_1, h_l2_1, n_l2_1 => ((hp_p Ev h_l2_1 o 9 0).bind fun v_2 => ((hp_p Ev h_l2_1 v_2 1 0).bind fun v_4 => ((hp_k Ev h_l2_1 v_4 13).bind fun u_6 => ((f_J1_length Ev h_l2_1 v_4).bind fun v_9 => (if v_9 ≤ y1_l2_1 then ((hp_k Ev h_l2_1 o 9).bind fun u_12 => ((f_X11_applyToSun Ev h_l2_1 n_l2_1 o).bind fun (r_15, h_16, k_17, s_18) => (ad k_17 s_18 ((hp_p Ev h_16 o 9 1).bind fun v_24 => ((hp_k Ev h_16 v_24 15).bind fun u_26 => ((f_J6_pop Ev h_16 (n_l2_1 + k_17) v_24).bind fun (r_29, h_30, k_31, s_32) => (ad k_31 s_32 ((hp_ca Ev h_30 r_29 [18]).bind fun u_38 => ((hp_k Ev h_30 r_29 18).bind fun u_40 => ((f_J17_intValue Ev h_30 r_29).bind fun v_43 => (some (v_43, h_30, 0, 0)))))))))))) else ((hp_p Ev h_l2_1 o 9 0).bind fun v_45 => ((hp_p Ev h_l2_1 v_45 1 0).bind fun v_47 => ((hp_k Ev h_l2_1 v_47 13).bind fun u_49 => ((f_J1_charAt Ev h_l2_1 v_47 y1_l2_1).bind fun v_52 => ((hp_k Ev h_l2_1 o 9).bind fun u_54 => ((f_X11_read Ev h_l2_1 n_l2_1 o v_52).bind fun (r_57, h_58, k_59, s_60) => (ad k_59 s_60 ((f_X11_compute_l2_1 Ev o k_l2_1) (y1_l2_1 + 1) h_58 (n_l2_1 + k_59))))))))))))))
def f_X11_compute (Ev : rb_E) (h : AH) (n : Nat) (o : Nat) : Option (Int32 × AH × Nat × Nat) := (f_X11_compute_l2_1 Ev o 4096 0 h n)
abbrev rm_X11_compute (k s : Nat) : Room := { frames := 12, cells := k, slots := s, locals := 267 }
set_option maxHeartbeats 4000000 in
theorem ct_X11_compute (Ev : rb_E) (h : AH) (n : Nat) (o : Nat) (r : Int32) (h' : AH) (k s : Nat) (hf : f_X11_compute Ev h n o = some (r, h', k, s)) : Ct Ev yX11_compute (ws_ yX11_compute cX11_compute 2 (some .int)) (rm_X11_compute k s) [.ref o] h n (pXi .int r h' (n + k)) := by
  rw [f_X11_compute] at hf
  refine Ct.of rfl (Nat.le_of_ble_eq_true rfl) fun X C hnm => ?_
  have C : Cx Ev X RX11 cX11_compute 2 (some .int) [] := C
  show Wa Ev X (rm_X11_compute k s) 2 h n 0 0 (rb_MQ Ev X (rm_X11_compute k s) (pXi .int r h' (n + k))) 0 [(0, .ref o)] []
  have hb : Bd (n + k) k s n 0 0 k s := ⟨rfl, Nat.le_of_eq (Nat.zero_add _), Nat.le_of_eq (Nat.zero_add _)⟩
  refine rb_iconst (v := 0) C dX11_compute_0 rfl ?_
  refine rb_istore_n (lv' := [(1, .int 0), (0, .ref o)]) C dX11_compute_1 rfl (by decide) rfl ?_
  have L_l2_1 : ∀ (k_l2_1 : Nat) (y1_l2_1 : Int32) (h_l2_1 : AH) (n_l2_1 kc_l2_1 ks_l2_1 a_ b_ : Nat), f_X11_compute_l2_1 Ev o k_l2_1 y1_l2_1 h_l2_1 n_l2_1 = some (r, h', a_, b_) → Bd (n + k) k s n_l2_1 kc_l2_1 ks_l2_1 a_ b_ → Wa Ev X (rm_X11_compute k s) 2 h_l2_1 n_l2_1 kc_l2_1 ks_l2_1 (rb_MQ Ev X (rm_X11_compute k s) (pXi .int r h' (n + k))) 2 [(0, .ref o), (1, .int y1_l2_1)] [] := by
    intro k_l2_1
    induction k_l2_1 with
    | zero => intro y1_l2_1 h_l2_1 n_l2_1 kc_l2_1 ks_l2_1 a_ b_ hf hb; cases hf
    | succ k_l2_1 ih_l2_1 =>
      intro y1_l2_1 h_l2_1 n_l2_1 kc_l2_1 ks_l2_1 a_ b_ hf hb
      rw [f_X11_compute_l2_1] at hf
      refine rb_iload_n C dX11_compute_2 rfl 1 rfl ?_
      refine rb_aload_n C dX11_compute_3 rfl 0 rfl ?_
      obtain ⟨v_2, e_3, hf⟩ := rb_bd hf
      refine rb_hP C fl_X11_23_X11 e_3 dX11_compute_4 ?_
      obtain ⟨v_4, e_5, hf⟩ := rb_bd hf
      refine rb_hP C fl_X11_105_X2 e_5 dX11_compute_7 ?_
      obtain ⟨u_6, e_7, hf⟩ := rb_bd hf
      obtain ⟨v_9, e_10, hf⟩ := rb_bd hf
      refine rb_callV (As := []) (rest := [.int y1_l2_1]) C mi_J1_length sv_X11_109 (hp_k_isC C.pf e_7 ck_J1) (ct_J1_length Ev h_l2_1 n_l2_1 v_4 _ e_10) rfl rfl (Nat.le_of_ble_eq_true rfl) ⟨Nat.le_of_ble_eq_true rfl, Nat.le_of_ble_eq_true rfl, hb.c0, hb.s0⟩ dX11_compute_10 rb_xXi (rb_kXi fun hn_8 => (rb_w (kc := kc_l2_1) (ks := ks_l2_1) rfl rfl ?_))
      refine rb_icmp_ge (tgt := 37) C dX11_compute_13 (by decide) (fun c_11 => ?_) (fun c_11 => ?_)
      · have hf := (if_pos c_11).symm.trans hf
        refine rb_aload_n C dX11_compute_37 rfl 0 rfl ?_
        obtain ⟨u_12, e_13, hf⟩ := rb_bd hf
        obtain ⟨⟨r_15, h_16, k_17, s_18⟩, e_19, hf⟩ := rb_bd hf
        obtain ⟨a_22, b_23, hf, ea_20, eb_21⟩ := ad_at hf
        refine rb_callV (As := []) (rest := []) C mi_X11_applyToSun sv_X11_93 (hp_k_isC C.pf e_13 ck_X11) (ct_X11_applyToSun Ev h_l2_1 n_l2_1 o r_15 _ _ _ e_19) rfl rfl (Nat.le_of_ble_eq_true rfl) ⟨Nat.le_of_ble_eq_true rfl, Nat.le_of_ble_eq_true rfl, Bd.c1 hb ea_20, Bd.s1 hb eb_21⟩ dX11_compute_38 rb_xX (rb_kX (rb_w (kc := (kc_l2_1 + k_17)) (ks := (ks_l2_1 + s_18)) rfl rfl ?_))
        have hb := Bd.ade hb ea_20 eb_21
        refine rb_aload_n C dX11_compute_41 rfl 0 rfl ?_
        obtain ⟨v_24, e_25, hf⟩ := rb_bd hf
        refine rb_hP C fl_X11_10_X11 e_25 dX11_compute_42 ?_
        obtain ⟨u_26, e_27, hf⟩ := rb_bd hf
        obtain ⟨⟨r_29, h_30, k_31, s_32⟩, e_33, hf⟩ := rb_bd hf
        obtain ⟨a_36, b_37, hf, ea_34, eb_35⟩ := ad_at hf
        refine rb_callV (As := []) (rest := []) C mi_J6_pop sv_X11_27 (hp_k_isC C.pf e_27 ck_J6) (ct_J6_pop Ev h_16 (n_l2_1 + k_17) v_24 r_29 _ _ _ e_33) rfl rfl (Nat.le_of_ble_eq_true rfl) ⟨Nat.le_of_ble_eq_true rfl, Nat.le_of_ble_eq_true rfl, Bd.c1 hb ea_34, Bd.s1 hb eb_35⟩ dX11_compute_45 rb_xX (rb_kX (rb_w (kc := ((kc_l2_1 + k_17) + k_31)) (ks := ((ks_l2_1 + s_18) + s_32)) rfl rfl ?_))
        have hb := Bd.ade hb ea_34 eb_35
        obtain ⟨u_38, e_39, hf⟩ := rb_bd hf
        refine rb_hca C q1606 okp_java_lang_Integer e_39 dX11_compute_48 ?_
        obtain ⟨u_40, e_41, hf⟩ := rb_bd hf
        obtain ⟨v_43, e_44, hf⟩ := rb_bd hf
        refine rb_callV (As := []) (rest := []) C mi_J17_intValue sv_X11_39 (hp_k_isC C.pf e_41 ck_J17) (ct_J17_intValue Ev h_30 ((n_l2_1 + k_17) + k_31) r_29 _ e_44) rfl rfl (Nat.le_of_ble_eq_true rfl) ⟨Nat.le_of_ble_eq_true rfl, Nat.le_of_ble_eq_true rfl, hb.c0, hb.s0⟩ dX11_compute_51 rb_xXi (rb_kXi fun hn_42 => (rb_w (kc := ((kc_l2_1 + k_17) + k_31)) (ks := ((ks_l2_1 + s_18) + s_32)) rfl rfl ?_))
        cases hf
        exact rb_iret C rfl rfl hb.e.2.1 hb.e.2.2 dX11_compute_54 ⟨rfl, rfl, hb.e.1, rfl⟩
      · have hf := (if_neg c_11).symm.trans hf
        refine rb_aload_n C dX11_compute_16 rfl 0 rfl ?_
        refine rb_aload_n C dX11_compute_17 rfl 0 rfl ?_
        obtain ⟨v_45, e_46, hf⟩ := rb_bd hf
        refine rb_hP C fl_X11_23_X11 e_46 dX11_compute_18 ?_
        obtain ⟨v_47, e_48, hf⟩ := rb_bd hf
        refine rb_hP C fl_X11_105_X2 e_48 dX11_compute_21 ?_
        refine rb_iload_n C dX11_compute_24 rfl 1 rfl ?_
        obtain ⟨u_49, e_50, hf⟩ := rb_bd hf
        obtain ⟨v_52, e_53, hf⟩ := rb_bd hf
        refine rb_callV (As := [.int y1_l2_1]) (rest := [.ref o]) C mi_J1_charAt sv_X11_114 (hp_k_isC C.pf e_50 ck_J1) (ct_J1_charAt Ev h_l2_1 n_l2_1 v_47 y1_l2_1 _ e_53) rfl rfl (Nat.le_of_ble_eq_true rfl) ⟨Nat.le_of_ble_eq_true rfl, Nat.le_of_ble_eq_true rfl, hb.c0, hb.s0⟩ dX11_compute_25 rb_xXi (rb_kXi fun hn_51 => (rb_w (kc := kc_l2_1) (ks := ks_l2_1) rfl rfl ?_))
        obtain ⟨u_54, e_55, hf⟩ := rb_bd hf
        obtain ⟨⟨r_57, h_58, k_59, s_60⟩, e_61, hf⟩ := rb_bd hf
        obtain ⟨a_64, b_65, hf, ea_62, eb_63⟩ := ad_at hf
        refine rb_callV (As := [.int v_52]) (rest := []) C mi_X11_read sv_X11_118 (hp_k_isC C.pf e_55 ck_X11) (ct_X11_read Ev h_l2_1 n_l2_1 o v_52 r_57 _ _ _ e_61) rfl rfl (Nat.le_of_ble_eq_true rfl) ⟨Nat.le_of_ble_eq_true rfl, Nat.le_of_ble_eq_true rfl, Bd.c1 hb ea_62, Bd.s1 hb eb_63⟩ dX11_compute_28 rb_xX (rb_kX (rb_w (kc := (kc_l2_1 + k_59)) (ks := (ks_l2_1 + s_60)) rfl rfl ?_))
        have hb := Bd.ade hb ea_62 eb_63
        refine rb_iinc (v := (y1_l2_1 + 1)) (lv' := [(1, .int (y1_l2_1 + 1)), (0, .ref o)]) C dX11_compute_31 (k := 1) rfl rfl (by decide) rfl ?_
        refine rb_goto (tgt := 2) C dX11_compute_34 (by decide) ?_
        refine rb_sub [1, 0] rfl ?_
        exact ih_l2_1 (y1_l2_1 + 1) h_58 (n_l2_1 + k_59) _ _ _ _ hf hb
  refine rb_sub [1, 0] rfl ?_
  exact L_l2_1 4096 0 h n _ _ _ _ hf hb
def f_X1_valueByRows (Ev : rb_E) (h : AH) (n : Nat) (o : Nat) : Option ((Int32 ⊕ (String × Nat)) × AH × Nat × Nat) := ((hp_k Ev h o 0).bind fun u_1 => ((f_X1_tree Ev h n o).bind fun (r_4, h_5, k_6, s_7) => (ad k_6 s_7 (match r_4 with | .inl v_13 => (ad 1 4 (rb_lt (va_up h_5 (n + k_6) (some (.inr (9, [.null, .null, .null, .int 0])))) fun h_20 => ((hp_p Ev h_20 o 0 0).bind fun v_21 => ((f_X11_init Ev h_20 ((n + k_6) + 1) (n + k_6) v_21).bind fun (r_24, h_25, k_26, s_27) => (ad k_26 s_27 ((hp_k Ev h_25 (n + k_6) 9).bind fun u_33 => ((f_X11_compute Ev h_25 (((n + k_6) + 1) + k_26) (n + k_6)).bind fun (r_36, h_37, k_38, s_39) => (ad k_38 s_39 (some (.inl r_36, h_37, 0, 0)))))))))) | .inr (E_14, q_15) => (if E_14 = "java/lang/UnsupportedOperationException" then (some (.inr ("java/lang/UnsupportedOperationException", q_15), h_5, 0, 0)) else none)))))
abbrev rm_X1_valueByRows (k s : Nat) : Room := { frames := 75, cells := k, slots := s, locals := 2866 }
set_option maxHeartbeats 4000000 in
theorem ct_X1_valueByRows (Ev : rb_E) (h : AH) (n : Nat) (o : Nat) (r : Int32 ⊕ (String × Nat)) (h' : AH) (k s : Nat) (hf : f_X1_valueByRows Ev h n o = some (r, h', k, s)) : Ct Ev yX1_valueByRows (ws_ yX1_valueByRows cX1_valueByRows 2 (some .int)) (rm_X1_valueByRows k s) [.ref o] h n (pX (rMap (fun v => some (.int v)) r) h' (n + k)) := by
  rw [f_X1_valueByRows] at hf
  refine Ct.of rfl (Nat.le_of_ble_eq_true rfl) fun X C hnm => ?_
  have C : Cx Ev X RX1 cX1_valueByRows 2 (some .int) [] := C
  show Wa Ev X (rm_X1_valueByRows k s) 2 h n 0 0 (rb_MQ Ev X (rm_X1_valueByRows k s) (pX (rMap (fun v => some (.int v)) r) h' (n + k))) 0 [(0, .ref o)] []
  have hb : Bd (n + k) k s n 0 0 k s := ⟨rfl, Nat.le_of_eq (Nat.zero_add _), Nat.le_of_eq (Nat.zero_add _)⟩
  refine rb_aload_n C dX1_valueByRows_0 rfl 0 rfl ?_
  obtain ⟨u_1, e_2, hf⟩ := rb_bd hf
  obtain ⟨⟨r_4, h_5, k_6, s_7⟩, e_8, hf⟩ := rb_bd hf
  obtain ⟨a_11, b_12, hf, ea_9, eb_10⟩ := ad_at hf
  rcases r_4 with v_13 | ⟨E_14, q_15⟩
  · dsimp only at hf
    refine rb_callVX (As := []) (rest := []) C mi_X1_tree sv_X1_239 (hp_k_isC C.pf e_2 ck_X1) (ct_X1_tree Ev h n o (.inl v_13) _ _ _ e_8) rfl rfl (Nat.le_of_ble_eq_true rfl) ⟨Nat.le_of_ble_eq_true rfl, Nat.le_of_ble_eq_true rfl, Bd.c1 hb ea_9, Bd.s1 hb eb_10⟩ dX1_valueByRows_1 rb_xX (rb_kX (r := some (.ref v_13)) (rb_w (kc := (0 + k_6)) (ks := (0 + s_7)) rfl rfl ?_))
    have hb := Bd.ade hb ea_9 eb_10
    refine rb_astore_n (lv' := [(1, .ref v_13), (0, .ref o)]) C dX1_valueByRows_4 rfl (by decide) rfl ?_
    obtain ⟨a_18, b_19, hf, ea_16, eb_17⟩ := ad_at hf
    refine rb_hnew C ck_X11 q1512 q1513 q105 [.null, .null, .null, .int 0] rfl (Bd.c1 hb ea_16) (Bd.s1 hb eb_17) dX1_valueByRows_5 ?_
    have hb := Bd.ade hb ea_16 eb_17
    obtain ⟨h_20, e_h_20⟩ : ∃ z, z = (va_up h_5 (n + k_6) (some (.inr (9, [.null, .null, .null, .int 0])))) := ⟨_, rfl⟩
    rw [← e_h_20]
    have hf := rb_let hf e_h_20
    refine rb_dup C dX1_valueByRows_8 rfl ?_
    refine rb_aload_n C dX1_valueByRows_9 rfl 1 rfl ?_
    obtain ⟨v_21, e_22, hf⟩ := rb_bd hf
    refine rb_hP C fl_X1_104_X1 e_22 dX1_valueByRows_10 ?_
    obtain ⟨⟨r_24, h_25, k_26, s_27⟩, e_28, hf⟩ := rb_bd hf
    obtain ⟨a_31, b_32, hf, ea_29, eb_30⟩ := ad_at hf
    refine rb_callI (As := [.ref v_21]) (rest := [.ref (n + k_6)]) C mi_X11_init si_X1_245 (ct_X11_init Ev h_20 ((n + k_6) + 1) (n + k_6) v_21 r_24 _ _ _ e_28) rfl rfl (Nat.le_of_ble_eq_true rfl) ⟨Nat.le_of_ble_eq_true rfl, Nat.le_of_ble_eq_true rfl, Bd.c1 hb ea_29, Bd.s1 hb eb_30⟩ dX1_valueByRows_13 rb_xX (rb_kX (rb_w (kc := (((0 + k_6) + 1) + k_26)) (ks := (((0 + s_7) + 4) + s_27)) rfl rfl ?_))
    have hb := Bd.ade hb ea_29 eb_30
    obtain ⟨u_33, e_34, hf⟩ := rb_bd hf
    obtain ⟨⟨r_36, h_37, k_38, s_39⟩, e_40, hf⟩ := rb_bd hf
    obtain ⟨a_43, b_44, hf, ea_41, eb_42⟩ := ad_at hf
    refine rb_callV (As := []) (rest := []) C mi_X11_compute sv_X1_246 (hp_k_isC C.pf e_34 ck_X11) (ct_X11_compute Ev h_25 (((n + k_6) + 1) + k_26) (n + k_6) r_36 _ _ _ e_40) rfl rfl (Nat.le_of_ble_eq_true rfl) ⟨Nat.le_of_ble_eq_true rfl, Nat.le_of_ble_eq_true rfl, Bd.c1 hb ea_41, Bd.s1 hb eb_42⟩ dX1_valueByRows_16 rb_xXi (rb_kXi fun hn_35 => (rb_w (kc := ((((0 + k_6) + 1) + k_26) + k_38)) (ks := ((((0 + s_7) + 4) + s_27) + s_39)) rfl rfl ?_))
    have hb := Bd.ade hb ea_41 eb_42
    cases hf
    exact rb_iret C rfl rfl hb.e.2.1 hb.e.2.2 dX1_valueByRows_19 ⟨rfl, rfl, hb.e.1⟩
  · dsimp only at hf
    by_cases c_45 : E_14 = "java/lang/UnsupportedOperationException"
    · have hf := (if_pos c_45).symm.trans hf
      subst c_45
      refine rb_callVX (As := []) (rest := []) C mi_X1_tree sv_X1_239 (hp_k_isC C.pf e_2 ck_X1) (ct_X1_tree Ev h n o (.inr ("java/lang/UnsupportedOperationException", q_15)) _ _ _ e_8) rfl rfl (Nat.le_of_ble_eq_true rfl) ⟨Nat.le_of_ble_eq_true rfl, Nat.le_of_ble_eq_true rfl, Bd.c1 hb ea_9, Bd.s1 hb eb_10⟩ dX1_valueByRows_1 (rb_xY (E := "java/lang/UnsupportedOperationException") (rb_wX (kc := (0 + k_6)) (ks := (0 + s_7)) rfl rfl ?_)) rb_kY
      have hb := Bd.ade hb ea_9 eb_10
      cases hf
      exact rb_out C (fun _ z => absurd z List.not_mem_nil) hb.e.2.1 hb.e.2.2 ⟨rfl, rfl, hb.e.1⟩
    have hf := (if_neg c_45).symm.trans hf
    cases hf
def f_X8_place (Ev : rb_E) (h : AH) (o : Nat) : Option Int32 := ((hp_i Ev h o 6 0).bind fun v_1 => (some v_1))
abbrev rm_X8_place : Room := { frames := 0, cells := 0, slots := 0, locals := 0 }
set_option maxHeartbeats 4000000 in
theorem ct_X8_place (Ev : rb_E) (h : AH) (n : Nat) (o : Nat) (r : Int32) (hf : f_X8_place Ev h o = some r) : Ct Ev yX8_place (ws_ yX8_place cX8_place 1 (some .int)) (rm_X8_place) [.ref o] h n (pXi .int r h n) := by
  rw [f_X8_place] at hf
  refine Ct.of rfl (Nat.le_of_ble_eq_true rfl) fun X C hnm => ?_
  have C : Cx Ev X RX8 cX8_place 1 (some .int) [] := C
  show Wa Ev X (rm_X8_place) 1 h n 0 0 (rb_MQ Ev X (rm_X8_place) (pXi .int r h n)) 0 [(0, .ref o)] []
  refine rb_aload_n C dX8_place_0 rfl 0 rfl ?_
  obtain ⟨v_1, e_2, hf⟩ := rb_bd hf
  refine rb_hI C fl_X8_7_X8 e_2 dX8_place_1 ?_
  cases hf
  exact rb_iret C rfl rfl (Nat.zero_le _) (Nat.zero_le _) dX8_place_4 ⟨rfl, rfl, rfl, rfl⟩
def f_X9_place (Ev : rb_E) (h : AH) (o : Nat) : Option Int32 := ((hp_i Ev h o 7 0).bind fun v_1 => (some v_1))
abbrev rm_X9_place : Room := { frames := 0, cells := 0, slots := 0, locals := 0 }
set_option maxHeartbeats 4000000 in
theorem ct_X9_place (Ev : rb_E) (h : AH) (n : Nat) (o : Nat) (r : Int32) (hf : f_X9_place Ev h o = some r) : Ct Ev yX9_place (ws_ yX9_place cX9_place 1 (some .int)) (rm_X9_place) [.ref o] h n (pXi .int r h n) := by
  rw [f_X9_place] at hf
  refine Ct.of rfl (Nat.le_of_ble_eq_true rfl) fun X C hnm => ?_
  have C : Cx Ev X RX9 cX9_place 1 (some .int) [] := C
  show Wa Ev X (rm_X9_place) 1 h n 0 0 (rb_MQ Ev X (rm_X9_place) (pXi .int r h n)) 0 [(0, .ref o)] []
  refine rb_aload_n C dX9_place_0 rfl 0 rfl ?_
  obtain ⟨v_1, e_2, hf⟩ := rb_bd hf
  refine rb_hI C fl_X9_7_X9 e_2 dX9_place_1 ?_
  cases hf
  exact rb_iret C rfl rfl (Nat.zero_le _) (Nat.zero_le _) dX9_place_4 ⟨rfl, rfl, rfl, rfl⟩
def f_X10_place (Ev : rb_E) (h : AH) (o : Nat) : Option Int32 := ((hp_i Ev h o 8 0).bind fun v_1 => (some v_1))
abbrev rm_X10_place : Room := { frames := 0, cells := 0, slots := 0, locals := 0 }
set_option maxHeartbeats 4000000 in
theorem ct_X10_place (Ev : rb_E) (h : AH) (n : Nat) (o : Nat) (r : Int32) (hf : f_X10_place Ev h o = some r) : Ct Ev yX10_place (ws_ yX10_place cX10_place 1 (some .int)) (rm_X10_place) [.ref o] h n (pXi .int r h n) := by
  rw [f_X10_place] at hf
  refine Ct.of rfl (Nat.le_of_ble_eq_true rfl) fun X C hnm => ?_
  have C : Cx Ev X RX10 cX10_place 1 (some .int) [] := C
  show Wa Ev X (rm_X10_place) 1 h n 0 0 (rb_MQ Ev X (rm_X10_place) (pXi .int r h n)) 0 [(0, .ref o)] []
  refine rb_aload_n C dX10_place_0 rfl 0 rfl ?_
  obtain ⟨v_1, e_2, hf⟩ := rb_bd hf
  refine rb_hI C fl_X10_7_X10 e_2 dX10_place_1 ?_
  cases hf
  exact rb_iret C rfl rfl (Nat.zero_le _) (Nat.zero_le _) dX10_place_4 ⟨rfl, rfl, rfl, rfl⟩
def f_X1_lastApplied_j17_19 (Ev : rb_E) (n : Nat) (h_5 : AH) (k_6 : Nat) (v_13 : Nat) (w0_j17_19 : Int32) : Option ((Int32 ⊕ (String × Nat)) × AH × Nat × Nat) := ((f_X1_requireElement Ev h_5 (n + k_6) w0_j17_19).bind fun (r_21, h_22, k_23, s_24) => (ad k_23 s_24 (match r_21 with | .inl v_30 => ((hp_cls Ev h_22 v_13).bind fun v_33 => (if v_33 = 6 then ((f_X8_place Ev h_22 v_13).bind fun v_37 => (some (.inl v_37, h_22, 0, 0))) else (if v_33 = 7 then ((f_X9_place Ev h_22 v_13).bind fun v_41 => (some (.inl v_41, h_22, 0, 0))) else (if v_33 = 8 then ((f_X10_place Ev h_22 v_13).bind fun v_45 => (some (.inl v_45, h_22, 0, 0))) else none)))) | .inr (E_31, q_32) => (if E_31 = "java/util/NoSuchElementException" then (some (.inr ("java/util/NoSuchElementException", q_32), h_22, 0, 0)) else none))))
def f_X1_lastApplied (Ev : rb_E) (h : AH) (n : Nat) (o : Nat) : Option ((Int32 ⊕ (String × Nat)) × AH × Nat × Nat) := ((hp_k Ev h o 0).bind fun u_1 => ((f_X1_tree Ev h n o).bind fun (r_4, h_5, k_6, s_7) => (ad k_6 s_7 (match r_4 with | .inl v_13 => ((hp_isa Ev h_5 v_13 [7] [6, 8]).bind fun v_16 => (if v_16 = 0 then (f_X1_lastApplied_j17_19 Ev n h_5 k_6 v_13 1) else (f_X1_lastApplied_j17_19 Ev n h_5 k_6 v_13 0))) | .inr (E_14, q_15) => (if E_14 = "java/lang/UnsupportedOperationException" then (some (.inr ("java/lang/UnsupportedOperationException", q_15), h_5, 0, 0)) else none)))))
abbrev rm_X1_lastApplied (k s : Nat) : Room := { frames := 75, cells := k, slots := s, locals := 2866 }
set_option maxHeartbeats 4000000 in
theorem ct_X1_lastApplied (Ev : rb_E) (h : AH) (n : Nat) (o : Nat) (r : Int32 ⊕ (String × Nat)) (h' : AH) (k s : Nat) (hf : f_X1_lastApplied Ev h n o = some (r, h', k, s)) : Ct Ev yX1_lastApplied (ws_ yX1_lastApplied cX1_lastApplied 2 (some .int)) (rm_X1_lastApplied k s) [.ref o] h n (pX (rMap (fun v => some (.int v)) r) h' (n + k)) := by
  rw [f_X1_lastApplied] at hf
  refine Ct.of rfl (Nat.le_of_ble_eq_true rfl) fun X C hnm => ?_
  have C : Cx Ev X RX1 cX1_lastApplied 2 (some .int) [] := C
  show Wa Ev X (rm_X1_lastApplied k s) 2 h n 0 0 (rb_MQ Ev X (rm_X1_lastApplied k s) (pX (rMap (fun v => some (.int v)) r) h' (n + k))) 0 [(0, .ref o)] []
  have hb : Bd (n + k) k s n 0 0 k s := ⟨rfl, Nat.le_of_eq (Nat.zero_add _), Nat.le_of_eq (Nat.zero_add _)⟩
  refine rb_aload_n C dX1_lastApplied_0 rfl 0 rfl ?_
  obtain ⟨u_1, e_2, hf⟩ := rb_bd hf
  obtain ⟨⟨r_4, h_5, k_6, s_7⟩, e_8, hf⟩ := rb_bd hf
  obtain ⟨a_11, b_12, hf, ea_9, eb_10⟩ := ad_at hf
  rcases r_4 with v_13 | ⟨E_14, q_15⟩
  · dsimp only at hf
    refine rb_callVX (As := []) (rest := []) C mi_X1_tree sv_X1_239 (hp_k_isC C.pf e_2 ck_X1) (ct_X1_tree Ev h n o (.inl v_13) _ _ _ e_8) rfl rfl (Nat.le_of_ble_eq_true rfl) ⟨Nat.le_of_ble_eq_true rfl, Nat.le_of_ble_eq_true rfl, Bd.c1 hb ea_9, Bd.s1 hb eb_10⟩ dX1_lastApplied_1 rb_xX (rb_kX (r := some (.ref v_13)) (rb_w (kc := (0 + k_6)) (ks := (0 + s_7)) rfl rfl ?_))
    have hb := Bd.ade hb ea_9 eb_10
    refine rb_astore_n (lv' := [(1, .ref v_13), (0, .ref o)]) C dX1_lastApplied_4 rfl (by decide) rfl ?_
    refine rb_aload_n C dX1_lastApplied_5 rfl 0 rfl ?_
    obtain ⟨v_16, e_17, hf⟩ := rb_bd hf
    refine rb_hin C q1642 okp_RainbowOperators_Operand okn_RainbowOperators_Operand e_17 dX1_lastApplied_6 ?_
    have J_j17_19 : ∀ (w0_j17_19 : Int32) (kc_j17_19 ks_j17_19 a_ b_ : Nat), f_X1_lastApplied_j17_19 Ev n h_5 k_6 v_13 w0_j17_19 = some (r, h', a_, b_) → Bd (n + k) k s (n + k_6) kc_j17_19 ks_j17_19 a_ b_ → Wa Ev X (rm_X1_lastApplied k s) 2 h_5 (n + k_6) kc_j17_19 ks_j17_19 (rb_MQ Ev X (rm_X1_lastApplied k s) (pX (rMap (fun v => some (.int v)) r) h' (n + k))) 17 [(0, .ref o), (1, .ref v_13)] [.int w0_j17_19] := by
      intro w0_j17_19 kc_j17_19 ks_j17_19 a_ b_ hf hb
      rw [f_X1_lastApplied_j17_19] at hf
      obtain ⟨⟨r_21, h_22, k_23, s_24⟩, e_25, hf⟩ := rb_bd hf
      obtain ⟨a_28, b_29, hf, ea_26, eb_27⟩ := ad_at hf
      rcases r_21 with v_30 | ⟨E_31, q_32⟩
      · dsimp only at hf
        refine rb_callS (As := [.int w0_j17_19]) (rest := []) C mi_X1_requireElement ss_X1_202 (ct_X1_requireElement Ev h_5 (n + k_6) w0_j17_19 (.inl v_30) _ _ _ e_25) rfl rfl (Nat.le_of_ble_eq_true rfl) ⟨Nat.le_of_ble_eq_true rfl, Nat.le_of_ble_eq_true rfl, Bd.c1 hb ea_26, Bd.s1 hb eb_27⟩ dX1_lastApplied_17 rb_xX (rb_kX (r := none) (rb_w (kc := (kc_j17_19 + k_23)) (ks := (ks_j17_19 + s_24)) rfl rfl ?_))
        have hb := Bd.ade hb ea_26 eb_27
        refine rb_aload_n C dX1_lastApplied_20 rfl 1 rfl ?_
        obtain ⟨v_33, e_34, hf⟩ := rb_bd hf
        by_cases c_35 : v_33 = 6
        · have hf := (if_pos c_35).symm.trans hf
          subst c_35
          obtain ⟨v_37, e_38, hf⟩ := rb_bd hf
          refine rb_callF (As := []) (rest := []) C mi_X8_place sf_X1_249_X8 ck_X8 (hp_cls_isC C.pf e_34 ck_X8) (ct_X8_place Ev h_22 ((n + k_6) + k_23) v_13 _ e_38) rfl rfl (Nat.le_of_ble_eq_true rfl) ⟨Nat.le_of_ble_eq_true rfl, Nat.le_of_ble_eq_true rfl, hb.c0, hb.s0⟩ dX1_lastApplied_21 rb_xXi (rb_kXi fun hn_36 => (rb_w (kc := (kc_j17_19 + k_23)) (ks := (ks_j17_19 + s_24)) rfl rfl ?_))
          cases hf
          exact rb_iret C rfl rfl hb.e.2.1 hb.e.2.2 dX1_lastApplied_26 ⟨rfl, rfl, hb.e.1⟩
        have hf := (if_neg c_35).symm.trans hf
        by_cases c_39 : v_33 = 7
        · have hf := (if_pos c_39).symm.trans hf
          subst c_39
          obtain ⟨v_41, e_42, hf⟩ := rb_bd hf
          refine rb_callF (As := []) (rest := []) C mi_X9_place sf_X1_249_X9 ck_X9 (hp_cls_isC C.pf e_34 ck_X9) (ct_X9_place Ev h_22 ((n + k_6) + k_23) v_13 _ e_42) rfl rfl (Nat.le_of_ble_eq_true rfl) ⟨Nat.le_of_ble_eq_true rfl, Nat.le_of_ble_eq_true rfl, hb.c0, hb.s0⟩ dX1_lastApplied_21 rb_xXi (rb_kXi fun hn_40 => (rb_w (kc := (kc_j17_19 + k_23)) (ks := (ks_j17_19 + s_24)) rfl rfl ?_))
          cases hf
          exact rb_iret C rfl rfl hb.e.2.1 hb.e.2.2 dX1_lastApplied_26 ⟨rfl, rfl, hb.e.1⟩
        have hf := (if_neg c_39).symm.trans hf
        by_cases c_43 : v_33 = 8
        · have hf := (if_pos c_43).symm.trans hf
          subst c_43
          obtain ⟨v_45, e_46, hf⟩ := rb_bd hf
          refine rb_callF (As := []) (rest := []) C mi_X10_place sf_X1_249_X10 ck_X10 (hp_cls_isC C.pf e_34 ck_X10) (ct_X10_place Ev h_22 ((n + k_6) + k_23) v_13 _ e_46) rfl rfl (Nat.le_of_ble_eq_true rfl) ⟨Nat.le_of_ble_eq_true rfl, Nat.le_of_ble_eq_true rfl, hb.c0, hb.s0⟩ dX1_lastApplied_21 rb_xXi (rb_kXi fun hn_44 => (rb_w (kc := (kc_j17_19 + k_23)) (ks := (ks_j17_19 + s_24)) rfl rfl ?_))
          cases hf
          exact rb_iret C rfl rfl hb.e.2.1 hb.e.2.2 dX1_lastApplied_26 ⟨rfl, rfl, hb.e.1⟩
        have hf := (if_neg c_43).symm.trans hf
        cases hf
      · dsimp only at hf
        by_cases c_47 : E_31 = "java/util/NoSuchElementException"
        · have hf := (if_pos c_47).symm.trans hf
          subst c_47
          refine rb_callS (As := [.int w0_j17_19]) (rest := []) C mi_X1_requireElement ss_X1_202 (ct_X1_requireElement Ev h_5 (n + k_6) w0_j17_19 (.inr ("java/util/NoSuchElementException", q_32)) _ _ _ e_25) rfl rfl (Nat.le_of_ble_eq_true rfl) ⟨Nat.le_of_ble_eq_true rfl, Nat.le_of_ble_eq_true rfl, Bd.c1 hb ea_26, Bd.s1 hb eb_27⟩ dX1_lastApplied_17 (rb_xY (E := "java/util/NoSuchElementException") (rb_wX (kc := (kc_j17_19 + k_23)) (ks := (ks_j17_19 + s_24)) rfl rfl ?_)) rb_kY
          have hb := Bd.ade hb ea_26 eb_27
          cases hf
          exact rb_out C (fun _ z => absurd z List.not_mem_nil) hb.e.2.1 hb.e.2.2 ⟨rfl, rfl, hb.e.1⟩
        have hf := (if_neg c_47).symm.trans hf
        cases hf
    refine rb_if_ne (tgt := 16) C dX1_lastApplied_9 (by decide) (fun c_18 => ?_) (fun c_18 => ?_)
    · have hf := (if_neg c_18).symm.trans hf
      refine rb_iconst (v := 0) C dX1_lastApplied_16 rfl ?_
      refine rb_sub [1, 0] rfl ?_
      exact J_j17_19 0  _ _ _ _ hf hb
    · have hf := (if_pos c_18).symm.trans hf
      refine rb_iconst (v := 1) C dX1_lastApplied_12 rfl ?_
      refine rb_goto (tgt := 17) C dX1_lastApplied_13 (by decide) ?_
      refine rb_sub [1, 0] rfl ?_
      exact J_j17_19 1  _ _ _ _ hf hb
  · dsimp only at hf
    by_cases c_48 : E_14 = "java/lang/UnsupportedOperationException"
    · have hf := (if_pos c_48).symm.trans hf
      subst c_48
      refine rb_callVX (As := []) (rest := []) C mi_X1_tree sv_X1_239 (hp_k_isC C.pf e_2 ck_X1) (ct_X1_tree Ev h n o (.inr ("java/lang/UnsupportedOperationException", q_15)) _ _ _ e_8) rfl rfl (Nat.le_of_ble_eq_true rfl) ⟨Nat.le_of_ble_eq_true rfl, Nat.le_of_ble_eq_true rfl, Bd.c1 hb ea_9, Bd.s1 hb eb_10⟩ dX1_lastApplied_1 (rb_xY (E := "java/lang/UnsupportedOperationException") (rb_wX (kc := (0 + k_6)) (ks := (0 + s_7)) rfl rfl ?_)) rb_kY
      have hb := Bd.ade hb ea_9 eb_10
      cases hf
      exact rb_out C (fun _ z => absurd z List.not_mem_nil) hb.e.2.1 hb.e.2.2 ⟨rfl, rfl, hb.e.1⟩
    have hf := (if_neg c_48).symm.trans hf
    cases hf
def f_X1_heightOf (Ev : rb_E) : Nat → AH → Nat → Option Int32
  | 0, _, _ => none
  | d + 1, h, x0 => ((hp_isa Ev h x0 [6] [7, 8]).bind fun v_1 => (if v_1 = 0 then ((hp_isa Ev h x0 [8] [6, 7]).bind fun v_4 => (if v_4 = 0 then (some 0) else ((hp_ca Ev h x0 [8]).bind fun u_7 => ((hp_p Ev h x0 8 2).bind fun v_9 => (((f_X1_heightOf Ev d) h v_9).bind fun v_12 => ((hp_p Ev h x0 8 3).bind fun v_14 => (((f_X1_heightOf Ev d) h v_14).bind fun v_17 => (some (1 + (if v_12 < v_17 then v_17 else v_12)))))))))) else ((hp_ca Ev h x0 [6]).bind fun u_19 => ((hp_p Ev h x0 6 1).bind fun v_21 => (((f_X1_heightOf Ev d) h v_21).bind fun v_24 => (some (1 + v_24)))))))
abbrev rm_X1_heightOf (d : Nat) : Room := { frames := 6 + 2 * d, cells := 0, slots := 0, locals := 200 + 60 * d }
set_option maxHeartbeats 4000000 in
theorem ct_X1_heightOf (Ev : rb_E) (h : AH) (n : Nat) (d : Nat) (x0 : Nat) (r : Int32) (hf : f_X1_heightOf Ev d h x0 = some r) : Ct Ev yX1_heightOf (ws_ yX1_heightOf cX1_heightOf 2 (some .int)) (rm_X1_heightOf d) [.ref x0] h n (pXi .int r h n) := by
  induction d generalizing h n x0 r with
  | zero => cases hf
  | succ d ih =>
    rw [f_X1_heightOf] at hf
    refine Ct.of rfl (Nat.le_of_ble_eq_true rfl) fun X C hnm => ?_
    have C : Cx Ev X RX1 cX1_heightOf 2 (some .int) [] := C
    show Wa Ev X (rm_X1_heightOf (d + 1)) 2 h n 0 0 (rb_MQ Ev X (rm_X1_heightOf (d + 1)) (pXi .int r h n)) 0 [(0, .ref x0)] []
    refine rb_aload_n C dX1_heightOf_0 rfl 0 rfl ?_
    obtain ⟨v_1, e_2, hf⟩ := rb_bd hf
    refine rb_hin C q1675 okp_RainbowOperators_Cloud okn_RainbowOperators_Cloud e_2 dX1_heightOf_1 ?_
    refine rb_if_eq (tgt := 22) C dX1_heightOf_4 (by decide) (fun c_3 => ?_) (fun c_3 => ?_)
    · have hf := (if_pos c_3).symm.trans hf
      refine rb_aload_n C dX1_heightOf_22 rfl 0 rfl ?_
      obtain ⟨v_4, e_5, hf⟩ := rb_bd hf
      refine rb_hin C q1676 okp_RainbowOperators_Application okn_RainbowOperators_Application e_5 dX1_heightOf_23 ?_
      refine rb_if_eq (tgt := 56) C dX1_heightOf_26 (by decide) (fun c_6 => ?_) (fun c_6 => ?_)
      · have hf := (if_pos c_6).symm.trans hf
        refine rb_iconst (v := 0) C dX1_heightOf_56 rfl ?_
        cases hf
        exact rb_iret C rfl rfl (Nat.zero_le _) (Nat.zero_le _) dX1_heightOf_57 ⟨rfl, rfl, rfl, rfl⟩
      · have hf := (if_neg c_6).symm.trans hf
        refine rb_aload_n C dX1_heightOf_29 rfl 0 rfl ?_
        obtain ⟨u_7, e_8, hf⟩ := rb_bd hf
        refine rb_hca C q1676 okp_RainbowOperators_Application e_8 dX1_heightOf_30 ?_
        refine rb_astore_n (lv' := [(1, .ref x0), (0, .ref x0)]) C dX1_heightOf_33 rfl (by decide) rfl ?_
        refine rb_iconst (v := 1) C dX1_heightOf_34 rfl ?_
        refine rb_aload_n C dX1_heightOf_35 rfl 0 rfl ?_
        obtain ⟨v_9, e_10, hf⟩ := rb_bd hf
        refine rb_hP C fl_X1_51_X10 e_10 dX1_heightOf_36 ?_
        obtain ⟨v_12, e_13, hf⟩ := rb_bd hf
        refine rb_callS (As := [.ref v_9]) (rest := [.int 1]) C mi_X1_heightOf ss_X1_45 (ih h n v_9 _ e_13) rfl rfl (Nat.le_of_ble_eq_true rfl) ⟨by show (6 + 2 * d) + 1 ≤ 6 + 2 * (d + 1); omega, by show 8 + (2 + 11) + (200 + 60 * d) ≤ 200 + 60 * (d + 1); omega, (Nat.zero_le _), (Nat.zero_le _)⟩ dX1_heightOf_39 rb_xXi (rb_kXi fun hn_11 => (rb_w (kc := 0) (ks := 0) rfl rfl ?_))
        refine rb_aload_n C dX1_heightOf_42 rfl 0 rfl ?_
        obtain ⟨v_14, e_15, hf⟩ := rb_bd hf
        refine rb_hP C fl_X1_54_X10 e_15 dX1_heightOf_43 ?_
        obtain ⟨v_17, e_18, hf⟩ := rb_bd hf
        refine rb_callS (As := [.ref v_14]) (rest := [.int v_12, .int 1]) C mi_X1_heightOf ss_X1_45 (ih h n v_14 _ e_18) rfl rfl (Nat.le_of_ble_eq_true rfl) ⟨by show (6 + 2 * d) + 1 ≤ 6 + 2 * (d + 1); omega, by show 8 + (2 + 11) + (200 + 60 * d) ≤ 200 + 60 * (d + 1); omega, (Nat.zero_le _), (Nat.zero_le _)⟩ dX1_heightOf_46 rb_xXi (rb_kXi fun hn_16 => (rb_w (kc := 0) (ks := 0) rfl rfl ?_))
        refine rb_mmax C q1677 q288 q81 q289 (Nat.le_of_ble_eq_true rfl) (Nat.le_of_ble_eq_true rfl) (Nat.zero_le _) (Nat.zero_le _) dX1_heightOf_49 ?_
        refine rb_iadd C dX1_heightOf_52 ?_
        refine rb_goto (tgt := 57) C dX1_heightOf_53 (by decide) ?_
        cases hf
        exact rb_iret C rfl rfl (Nat.zero_le _) (Nat.zero_le _) dX1_heightOf_57 ⟨rfl, rfl, rfl, rfl⟩
    · have hf := (if_neg c_3).symm.trans hf
      refine rb_aload_n C dX1_heightOf_7 rfl 0 rfl ?_
      obtain ⟨u_19, e_20, hf⟩ := rb_bd hf
      refine rb_hca C q1675 okp_RainbowOperators_Cloud e_20 dX1_heightOf_8 ?_
      refine rb_astore_n (lv' := [(1, .ref x0), (0, .ref x0)]) C dX1_heightOf_11 rfl (by decide) rfl ?_
      refine rb_iconst (v := 1) C dX1_heightOf_12 rfl ?_
      refine rb_aload_n C dX1_heightOf_13 rfl 0 rfl ?_
      obtain ⟨v_21, e_22, hf⟩ := rb_bd hf
      refine rb_hP C fl_X1_41_X8 e_22 dX1_heightOf_14 ?_
      obtain ⟨v_24, e_25, hf⟩ := rb_bd hf
      refine rb_callS (As := [.ref v_21]) (rest := [.int 1]) C mi_X1_heightOf ss_X1_45 (ih h n v_21 _ e_25) rfl rfl (Nat.le_of_ble_eq_true rfl) ⟨by show (6 + 2 * d) + 1 ≤ 6 + 2 * (d + 1); omega, by show 8 + (2 + 11) + (200 + 60 * d) ≤ 200 + 60 * (d + 1); omega, (Nat.zero_le _), (Nat.zero_le _)⟩ dX1_heightOf_17 rb_xXi (rb_kXi fun hn_23 => (rb_w (kc := 0) (ks := 0) rfl rfl ?_))
      refine rb_iadd C dX1_heightOf_20 ?_
      cases hf
      exact rb_iret C rfl rfl (Nat.zero_le _) (Nat.zero_le _) dX1_heightOf_21 ⟨rfl, rfl, rfl, rfl⟩
def f_X1_height (Ev : rb_E) (h : AH) (n : Nat) (o : Nat) : Option ((Int32 ⊕ (String × Nat)) × AH × Nat × Nat) := ((hp_k Ev h o 0).bind fun u_1 => ((f_X1_tree Ev h n o).bind fun (r_4, h_5, k_6, s_7) => (ad k_6 s_7 (match r_4 with | .inl v_13 => ((f_X1_heightOf Ev 30 h_5 v_13).bind fun v_17 => (some (.inl v_17, h_5, 0, 0))) | .inr (E_14, q_15) => (if E_14 = "java/lang/UnsupportedOperationException" then (some (.inr ("java/lang/UnsupportedOperationException", q_15), h_5, 0, 0)) else none)))))
abbrev rm_X1_height (k s : Nat) : Room := { frames := 75, cells := k, slots := s, locals := 2866 }
set_option maxHeartbeats 4000000 in
theorem ct_X1_height (Ev : rb_E) (h : AH) (n : Nat) (o : Nat) (r : Int32 ⊕ (String × Nat)) (h' : AH) (k s : Nat) (hf : f_X1_height Ev h n o = some (r, h', k, s)) : Ct Ev yX1_height (ws_ yX1_height cX1_height 1 (some .int)) (rm_X1_height k s) [.ref o] h n (pX (rMap (fun v => some (.int v)) r) h' (n + k)) := by
  rw [f_X1_height] at hf
  refine Ct.of rfl (Nat.le_of_ble_eq_true rfl) fun X C hnm => ?_
  have C : Cx Ev X RX1 cX1_height 1 (some .int) [] := C
  show Wa Ev X (rm_X1_height k s) 1 h n 0 0 (rb_MQ Ev X (rm_X1_height k s) (pX (rMap (fun v => some (.int v)) r) h' (n + k))) 0 [(0, .ref o)] []
  have hb : Bd (n + k) k s n 0 0 k s := ⟨rfl, Nat.le_of_eq (Nat.zero_add _), Nat.le_of_eq (Nat.zero_add _)⟩
  refine rb_aload_n C dX1_height_0 rfl 0 rfl ?_
  obtain ⟨u_1, e_2, hf⟩ := rb_bd hf
  obtain ⟨⟨r_4, h_5, k_6, s_7⟩, e_8, hf⟩ := rb_bd hf
  obtain ⟨a_11, b_12, hf, ea_9, eb_10⟩ := ad_at hf
  rcases r_4 with v_13 | ⟨E_14, q_15⟩
  · dsimp only at hf
    refine rb_callVX (As := []) (rest := []) C mi_X1_tree sv_X1_239 (hp_k_isC C.pf e_2 ck_X1) (ct_X1_tree Ev h n o (.inl v_13) _ _ _ e_8) rfl rfl (Nat.le_of_ble_eq_true rfl) ⟨Nat.le_of_ble_eq_true rfl, Nat.le_of_ble_eq_true rfl, Bd.c1 hb ea_9, Bd.s1 hb eb_10⟩ dX1_height_1 rb_xX (rb_kX (r := some (.ref v_13)) (rb_w (kc := (0 + k_6)) (ks := (0 + s_7)) rfl rfl ?_))
    have hb := Bd.ade hb ea_9 eb_10
    obtain ⟨v_17, e_18, hf⟩ := rb_bd hf
    refine rb_callS (As := [.ref v_13]) (rest := []) C mi_X1_heightOf ss_X1_45 (ct_X1_heightOf Ev h_5 (n + k_6) 30 v_13 _ e_18) rfl rfl (Nat.le_of_ble_eq_true rfl) ⟨Nat.le_of_ble_eq_true rfl, Nat.le_of_ble_eq_true rfl, hb.c0, hb.s0⟩ dX1_height_4 rb_xXi (rb_kXi fun hn_16 => (rb_w (kc := (0 + k_6)) (ks := (0 + s_7)) rfl rfl ?_))
    cases hf
    exact rb_iret C rfl rfl hb.e.2.1 hb.e.2.2 dX1_height_7 ⟨rfl, rfl, hb.e.1⟩
  · dsimp only at hf
    by_cases c_19 : E_14 = "java/lang/UnsupportedOperationException"
    · have hf := (if_pos c_19).symm.trans hf
      subst c_19
      refine rb_callVX (As := []) (rest := []) C mi_X1_tree sv_X1_239 (hp_k_isC C.pf e_2 ck_X1) (ct_X1_tree Ev h n o (.inr ("java/lang/UnsupportedOperationException", q_15)) _ _ _ e_8) rfl rfl (Nat.le_of_ble_eq_true rfl) ⟨Nat.le_of_ble_eq_true rfl, Nat.le_of_ble_eq_true rfl, Bd.c1 hb ea_9, Bd.s1 hb eb_10⟩ dX1_height_1 (rb_xY (E := "java/lang/UnsupportedOperationException") (rb_wX (kc := (0 + k_6)) (ks := (0 + s_7)) rfl rfl ?_)) rb_kY
      have hb := Bd.ade hb ea_9 eb_10
      cases hf
      exact rb_out C (fun _ z => absurd z List.not_mem_nil) hb.e.2.1 hb.e.2.2 ⟨rfl, rfl, hb.e.1⟩
    have hf := (if_neg c_19).symm.trans hf
    cases hf
def f_X1_keep (Ev : rb_E) (h : AH) (n : Nat) (o : Nat) (x1 : Int32) : Option ((Int32 ⊕ (String × Nat)) × AH × Nat × Nat) := (ad 1 4 (rb_lt (va_up h n (some (.inr (13, [.null, .int 0, .int 0, .int 0])))) fun h_5 => ((f_J1_init Ev h_5 (n + 1) n).bind fun (r_7, h_8, k_9, s_10) => (ad k_9 s_10 ((hp_k Ev h_8 n 13).bind fun u_16 => ((f_J1_append_3 Ev h_8 ((n + 1) + k_9) n (eS Ev RX1 93)).bind fun (r_19, h_20, k_21, s_22) => (ad k_21 s_22 ((hp_k Ev h_20 r_19 13).bind fun u_28 => ((f_J1_append_7 Ev h_20 (((n + 1) + k_9) + k_21) r_19 x1).bind fun (r_31, h_32, k_33, s_34) => (ad k_33 s_34 ((hp_k Ev h_32 r_31 13).bind fun u_40 => ((f_J1_toString Ev h_32 ((((n + 1) + k_9) + k_21) + k_33) r_31).bind fun (r_43, h_44, k_45, s_46) => (ad k_45 s_46 ((hp_k Ev h_44 o 0).bind fun u_52 => ((f_X1_commit Ev h_44 (((((n + 1) + k_9) + k_21) + k_33) + k_45) o (eS Ev RX1 254) r_43 0).bind fun (r_55, h_56, k_57, s_58) => (ad k_57 s_58 (match r_55 with | .inl v_64 => (some (.inl v_64, h_56, 0, 0)) | .inr (E_65, q_66) => (if E_65 = "java/lang/IllegalArgumentException" then (some (.inr ("java/lang/IllegalArgumentException", q_66), h_56, 0, 0)) else (if E_65 = "java/lang/IndexOutOfBoundsException" then (some (.inr ("java/lang/IndexOutOfBoundsException", q_66), h_56, 0, 0)) else (if E_65 = "java/lang/UnsupportedOperationException" then (some (.inr ("java/lang/UnsupportedOperationException", q_66), h_56, 0, 0)) else none))))))))))))))))))))
abbrev rm_X1_keep (k s : Nat) : Room := { frames := 77, cells := k, slots := s, locals := 2916 }
set_option maxHeartbeats 4000000 in
theorem ct_X1_keep (Ev : rb_E) (h : AH) (n : Nat) (o : Nat) (x1 : Int32) (r : Int32 ⊕ (String × Nat)) (h' : AH) (k s : Nat) (hf : f_X1_keep Ev h n o x1 = some (r, h', k, s)) : Ct Ev yX1_keep (ws_ yX1_keep cX1_keep 2 (some .int)) (rm_X1_keep k s) [.ref o, .int x1] h n (pX (rMap (fun v => some (.int v)) r) h' (n + k)) := by
  rw [f_X1_keep] at hf
  refine Ct.of rfl (Nat.le_of_ble_eq_true rfl) fun X C hnm => ?_
  have C : Cx Ev X RX1 cX1_keep 2 (some .int) [] := C
  show Wa Ev X (rm_X1_keep k s) 2 h n 0 0 (rb_MQ Ev X (rm_X1_keep k s) (pX (rMap (fun v => some (.int v)) r) h' (n + k))) 0 [(0, .ref o), (1, .int x1)] []
  have hb : Bd (n + k) k s n 0 0 k s := ⟨rfl, Nat.le_of_eq (Nat.zero_add _), Nat.le_of_eq (Nat.zero_add _)⟩
  refine rb_aload_n C dX1_keep_0 rfl 0 rfl ?_
  refine rb_ldcS C q1685 dX1_keep_1 ?_
  obtain ⟨a_3, b_4, hf, ea_1, eb_2⟩ := ad_at hf
  refine rb_hnew C ck_J1 q225 q132 q72 [.null, .int 0, .int 0, .int 0] rfl (Bd.c1 hb ea_1) (Bd.s1 hb eb_2) dX1_keep_3 ?_
  have hb := Bd.ade hb ea_1 eb_2
  obtain ⟨h_5, e_h_5⟩ : ∃ z, z = (va_up h n (some (.inr (13, [.null, .int 0, .int 0, .int 0])))) := ⟨_, rfl⟩
  rw [← e_h_5]
  have hf := rb_let hf e_h_5
  refine rb_dup C dX1_keep_6 rfl ?_
  obtain ⟨⟨r_7, h_8, k_9, s_10⟩, e_11, hf⟩ := rb_bd hf
  obtain ⟨a_14, b_15, hf, ea_12, eb_13⟩ := ad_at hf
  refine rb_callI (As := []) (rest := [.ref n, .ref (eS Ev RX1 254), .ref o]) C mi_J1_init si_X1_65 (ct_J1_init Ev h_5 (n + 1) n r_7 _ _ _ e_11) rfl rfl (Nat.le_of_ble_eq_true rfl) ⟨Nat.le_of_ble_eq_true rfl, Nat.le_of_ble_eq_true rfl, Bd.c1 hb ea_12, Bd.s1 hb eb_13⟩ dX1_keep_7 rb_xX (rb_kX (rb_w (kc := ((0 + 1) + k_9)) (ks := ((0 + 4) + s_10)) rfl rfl ?_))
  have hb := Bd.ade hb ea_12 eb_13
  refine rb_ldcS C q227 dX1_keep_10 ?_
  obtain ⟨u_16, e_17, hf⟩ := rb_bd hf
  obtain ⟨⟨r_19, h_20, k_21, s_22⟩, e_23, hf⟩ := rb_bd hf
  obtain ⟨a_26, b_27, hf, ea_24, eb_25⟩ := ad_at hf
  refine rb_callV (As := [.ref (eS Ev RX1 93)]) (rest := [.ref (eS Ev RX1 254), .ref o]) C mi_J1_append_3 sv_X1_68 (hp_k_isC C.pf e_17 ck_J1) (ct_J1_append_3 Ev h_8 ((n + 1) + k_9) n (eS Ev RX1 93) r_19 _ _ _ e_23) rfl rfl (Nat.le_of_ble_eq_true rfl) ⟨Nat.le_of_ble_eq_true rfl, Nat.le_of_ble_eq_true rfl, Bd.c1 hb ea_24, Bd.s1 hb eb_25⟩ dX1_keep_12 rb_xX (rb_kX (rb_w (kc := (((0 + 1) + k_9) + k_21)) (ks := (((0 + 4) + s_10) + s_22)) rfl rfl ?_))
  have hb := Bd.ade hb ea_24 eb_25
  refine rb_iload_n C dX1_keep_15 rfl 1 rfl ?_
  obtain ⟨u_28, e_29, hf⟩ := rb_bd hf
  obtain ⟨⟨r_31, h_32, k_33, s_34⟩, e_35, hf⟩ := rb_bd hf
  obtain ⟨a_38, b_39, hf, ea_36, eb_37⟩ := ad_at hf
  refine rb_callV (As := [.int x1]) (rest := [.ref (eS Ev RX1 254), .ref o]) C mi_J1_append_7 sv_X1_88 (hp_k_isC C.pf e_29 ck_J1) (ct_J1_append_7 Ev h_20 (((n + 1) + k_9) + k_21) r_19 x1 r_31 _ _ _ e_35) rfl rfl (Nat.le_of_ble_eq_true rfl) ⟨Nat.le_of_ble_eq_true rfl, Nat.le_of_ble_eq_true rfl, Bd.c1 hb ea_36, Bd.s1 hb eb_37⟩ dX1_keep_16 rb_xX (rb_kX (rb_w (kc := ((((0 + 1) + k_9) + k_21) + k_33)) (ks := ((((0 + 4) + s_10) + s_22) + s_34)) rfl rfl ?_))
  have hb := Bd.ade hb ea_36 eb_37
  obtain ⟨u_40, e_41, hf⟩ := rb_bd hf
  obtain ⟨⟨r_43, h_44, k_45, s_46⟩, e_47, hf⟩ := rb_bd hf
  obtain ⟨a_50, b_51, hf, ea_48, eb_49⟩ := ad_at hf
  refine rb_callV (As := []) (rest := [.ref (eS Ev RX1 254), .ref o]) C mi_J1_toString sv_X1_78 (hp_k_isC C.pf e_41 ck_J1) (ct_J1_toString Ev h_32 ((((n + 1) + k_9) + k_21) + k_33) r_31 r_43 _ _ _ e_47) rfl rfl (Nat.le_of_ble_eq_true rfl) ⟨Nat.le_of_ble_eq_true rfl, Nat.le_of_ble_eq_true rfl, Bd.c1 hb ea_48, Bd.s1 hb eb_49⟩ dX1_keep_19 rb_xX (rb_kX (rb_w (kc := (((((0 + 1) + k_9) + k_21) + k_33) + k_45)) (ks := (((((0 + 4) + s_10) + s_22) + s_34) + s_46)) rfl rfl ?_))
  have hb := Bd.ade hb ea_48 eb_49
  refine rb_iconst (v := 0) C dX1_keep_22 rfl ?_
  obtain ⟨u_52, e_53, hf⟩ := rb_bd hf
  obtain ⟨⟨r_55, h_56, k_57, s_58⟩, e_59, hf⟩ := rb_bd hf
  obtain ⟨a_62, b_63, hf, ea_60, eb_61⟩ := ad_at hf
  rcases r_55 with v_64 | ⟨E_65, q_66⟩
  · dsimp only at hf
    refine rb_callVX (As := [.ref (eS Ev RX1 254), .ref r_43, .int 0]) (rest := []) C mi_X1_commit sv_X1_174 (hp_k_isC C.pf e_53 ck_X1) (ct_X1_commit Ev h_44 (((((n + 1) + k_9) + k_21) + k_33) + k_45) o (eS Ev RX1 254) r_43 0 (.inl v_64) _ _ _ e_59) rfl rfl (Nat.le_of_ble_eq_true rfl) ⟨Nat.le_of_ble_eq_true rfl, Nat.le_of_ble_eq_true rfl, Bd.c1 hb ea_60, Bd.s1 hb eb_61⟩ dX1_keep_23 rb_xX (rb_kX (r := some (.int v_64)) (rb_w (kc := ((((((0 + 1) + k_9) + k_21) + k_33) + k_45) + k_57)) (ks := ((((((0 + 4) + s_10) + s_22) + s_34) + s_46) + s_58)) rfl rfl ?_))
    have hb := Bd.ade hb ea_60 eb_61
    cases hf
    exact rb_iret C rfl rfl hb.e.2.1 hb.e.2.2 dX1_keep_26 ⟨rfl, rfl, hb.e.1⟩
  · dsimp only at hf
    by_cases c_67 : E_65 = "java/lang/IllegalArgumentException"
    · have hf := (if_pos c_67).symm.trans hf
      subst c_67
      refine rb_callVX (As := [.ref (eS Ev RX1 254), .ref r_43, .int 0]) (rest := []) C mi_X1_commit sv_X1_174 (hp_k_isC C.pf e_53 ck_X1) (ct_X1_commit Ev h_44 (((((n + 1) + k_9) + k_21) + k_33) + k_45) o (eS Ev RX1 254) r_43 0 (.inr ("java/lang/IllegalArgumentException", q_66)) _ _ _ e_59) rfl rfl (Nat.le_of_ble_eq_true rfl) ⟨Nat.le_of_ble_eq_true rfl, Nat.le_of_ble_eq_true rfl, Bd.c1 hb ea_60, Bd.s1 hb eb_61⟩ dX1_keep_23 (rb_xY (E := "java/lang/IllegalArgumentException") (rb_wX (kc := ((((((0 + 1) + k_9) + k_21) + k_33) + k_45) + k_57)) (ks := ((((((0 + 4) + s_10) + s_22) + s_34) + s_46) + s_58)) rfl rfl ?_)) rb_kY
      have hb := Bd.ade hb ea_60 eb_61
      cases hf
      exact rb_out C (fun _ z => absurd z List.not_mem_nil) hb.e.2.1 hb.e.2.2 ⟨rfl, rfl, hb.e.1⟩
    have hf := (if_neg c_67).symm.trans hf
    by_cases c_68 : E_65 = "java/lang/IndexOutOfBoundsException"
    · have hf := (if_pos c_68).symm.trans hf
      subst c_68
      refine rb_callVX (As := [.ref (eS Ev RX1 254), .ref r_43, .int 0]) (rest := []) C mi_X1_commit sv_X1_174 (hp_k_isC C.pf e_53 ck_X1) (ct_X1_commit Ev h_44 (((((n + 1) + k_9) + k_21) + k_33) + k_45) o (eS Ev RX1 254) r_43 0 (.inr ("java/lang/IndexOutOfBoundsException", q_66)) _ _ _ e_59) rfl rfl (Nat.le_of_ble_eq_true rfl) ⟨Nat.le_of_ble_eq_true rfl, Nat.le_of_ble_eq_true rfl, Bd.c1 hb ea_60, Bd.s1 hb eb_61⟩ dX1_keep_23 (rb_xY (E := "java/lang/IndexOutOfBoundsException") (rb_wX (kc := ((((((0 + 1) + k_9) + k_21) + k_33) + k_45) + k_57)) (ks := ((((((0 + 4) + s_10) + s_22) + s_34) + s_46) + s_58)) rfl rfl ?_)) rb_kY
      have hb := Bd.ade hb ea_60 eb_61
      cases hf
      exact rb_out C (fun _ z => absurd z List.not_mem_nil) hb.e.2.1 hb.e.2.2 ⟨rfl, rfl, hb.e.1⟩
    have hf := (if_neg c_68).symm.trans hf
    by_cases c_69 : E_65 = "java/lang/UnsupportedOperationException"
    · have hf := (if_pos c_69).symm.trans hf
      subst c_69
      refine rb_callVX (As := [.ref (eS Ev RX1 254), .ref r_43, .int 0]) (rest := []) C mi_X1_commit sv_X1_174 (hp_k_isC C.pf e_53 ck_X1) (ct_X1_commit Ev h_44 (((((n + 1) + k_9) + k_21) + k_33) + k_45) o (eS Ev RX1 254) r_43 0 (.inr ("java/lang/UnsupportedOperationException", q_66)) _ _ _ e_59) rfl rfl (Nat.le_of_ble_eq_true rfl) ⟨Nat.le_of_ble_eq_true rfl, Nat.le_of_ble_eq_true rfl, Bd.c1 hb ea_60, Bd.s1 hb eb_61⟩ dX1_keep_23 (rb_xY (E := "java/lang/UnsupportedOperationException") (rb_wX (kc := ((((((0 + 1) + k_9) + k_21) + k_33) + k_45) + k_57)) (ks := ((((((0 + 4) + s_10) + s_22) + s_34) + s_46) + s_58)) rfl rfl ?_)) rb_kY
      have hb := Bd.ade hb ea_60 eb_61
      cases hf
      exact rb_out C (fun _ z => absurd z List.not_mem_nil) hb.e.2.1 hb.e.2.2 ⟨rfl, rfl, hb.e.1⟩
    have hf := (if_neg c_69).symm.trans hf
    cases hf
def f_X1_sky (Ev : rb_E) (h : AH) (n : Nat) (o : Nat) (x1 : Int32) : Option ((Int32 ⊕ (String × Nat)) × AH × Nat × Nat) := ((f_X1_requireArgument Ev h n (f_X1_inRange x1 65 69)).bind fun (r_3, h_4, k_5, s_6) => (ad k_5 s_6 (match r_3 with | .inl v_12 => ((hp_p Ev h_4 o 0 0).bind fun v_15 => ((hp_k Ev h_4 v_15 1).bind fun u_17 => ((f_X2_valueOf Ev h_4 v_15 x1).bind fun v_20 => (some (.inl v_20, h_4, 0, 0))))) | .inr (E_13, q_14) => (if E_13 = "java/lang/IllegalArgumentException" then (some (.inr ("java/lang/IllegalArgumentException", q_14), h_4, 0, 0)) else none))))
abbrev rm_X1_sky (k s : Nat) : Room := { frames := 7, cells := k, slots := s, locals := 109 }
set_option maxHeartbeats 4000000 in
theorem ct_X1_sky (Ev : rb_E) (h : AH) (n : Nat) (o : Nat) (x1 : Int32) (r : Int32 ⊕ (String × Nat)) (h' : AH) (k s : Nat) (hf : f_X1_sky Ev h n o x1 = some (r, h', k, s)) : Ct Ev yX1_sky (ws_ yX1_sky cX1_sky 2 (some .int)) (rm_X1_sky k s) [.ref o, .int x1] h n (pX (rMap (fun v => some (.int v)) r) h' (n + k)) := by
  rw [f_X1_sky] at hf
  refine Ct.of rfl (Nat.le_of_ble_eq_true rfl) fun X C hnm => ?_
  have C : Cx Ev X RX1 cX1_sky 2 (some .int) [] := C
  show Wa Ev X (rm_X1_sky k s) 2 h n 0 0 (rb_MQ Ev X (rm_X1_sky k s) (pX (rMap (fun v => some (.int v)) r) h' (n + k))) 0 [(0, .ref o), (1, .int x1)] []
  have hb : Bd (n + k) k s n 0 0 k s := ⟨rfl, Nat.le_of_eq (Nat.zero_add _), Nat.le_of_eq (Nat.zero_add _)⟩
  refine rb_iload_n C dX1_sky_0 rfl 1 rfl ?_
  refine rb_bipush (v := 65) C dX1_sky_1 rfl ?_
  refine rb_bipush (v := 69) C dX1_sky_3 rfl ?_
  refine rb_callS (As := [.int x1, .int 65, .int 69]) (rest := []) C mi_X1_inRange ss_X1_7 (ct_X1_inRange Ev h n x1 65 69 _ rfl) rfl rfl (Nat.le_of_ble_eq_true rfl) ⟨Nat.le_of_ble_eq_true rfl, Nat.le_of_ble_eq_true rfl, hb.c0, hb.s0⟩ dX1_sky_5 rb_xXi (rb_kXi fun hn_1 => (rb_w (kc := 0) (ks := 0) rfl rfl ?_))
  obtain ⟨⟨r_3, h_4, k_5, s_6⟩, e_7, hf⟩ := rb_bd hf
  obtain ⟨a_10, b_11, hf, ea_8, eb_9⟩ := ad_at hf
  rcases r_3 with v_12 | ⟨E_13, q_14⟩
  · dsimp only at hf
    refine rb_callS (As := [.int (f_X1_inRange x1 65 69)]) (rest := []) C mi_X1_requireArgument ss_X1_28 (ct_X1_requireArgument Ev h n (f_X1_inRange x1 65 69) (.inl v_12) _ _ _ e_7) rfl rfl (Nat.le_of_ble_eq_true rfl) ⟨Nat.le_of_ble_eq_true rfl, Nat.le_of_ble_eq_true rfl, Bd.c1 hb ea_8, Bd.s1 hb eb_9⟩ dX1_sky_8 rb_xX (rb_kX (r := none) (rb_w (kc := (0 + k_5)) (ks := (0 + s_6)) rfl rfl ?_))
    have hb := Bd.ade hb ea_8 eb_9
    refine rb_aload_n C dX1_sky_11 rfl 0 rfl ?_
    obtain ⟨v_15, e_16, hf⟩ := rb_bd hf
    refine rb_hP C fl_X1_104_X1 e_16 dX1_sky_12 ?_
    refine rb_iload_n C dX1_sky_15 rfl 1 rfl ?_
    obtain ⟨u_17, e_18, hf⟩ := rb_bd hf
    obtain ⟨v_20, e_21, hf⟩ := rb_bd hf
    refine rb_callV (As := [.int x1]) (rest := []) C mi_X2_valueOf sv_X1_256 (hp_k_isC C.pf e_18 ck_X2) (ct_X2_valueOf Ev h_4 (n + k_5) v_15 x1 _ e_21) rfl rfl (Nat.le_of_ble_eq_true rfl) ⟨Nat.le_of_ble_eq_true rfl, Nat.le_of_ble_eq_true rfl, hb.c0, hb.s0⟩ dX1_sky_16 rb_xXi (rb_kXi fun hn_19 => (rb_w (kc := (0 + k_5)) (ks := (0 + s_6)) rfl rfl ?_))
    cases hf
    exact rb_iret C rfl rfl hb.e.2.1 hb.e.2.2 dX1_sky_19 ⟨rfl, rfl, hb.e.1⟩
  · dsimp only at hf
    by_cases c_22 : E_13 = "java/lang/IllegalArgumentException"
    · have hf := (if_pos c_22).symm.trans hf
      subst c_22
      refine rb_callS (As := [.int (f_X1_inRange x1 65 69)]) (rest := []) C mi_X1_requireArgument ss_X1_28 (ct_X1_requireArgument Ev h n (f_X1_inRange x1 65 69) (.inr ("java/lang/IllegalArgumentException", q_14)) _ _ _ e_7) rfl rfl (Nat.le_of_ble_eq_true rfl) ⟨Nat.le_of_ble_eq_true rfl, Nat.le_of_ble_eq_true rfl, Bd.c1 hb ea_8, Bd.s1 hb eb_9⟩ dX1_sky_8 (rb_xY (E := "java/lang/IllegalArgumentException") (rb_wX (kc := (0 + k_5)) (ks := (0 + s_6)) rfl rfl ?_)) rb_kY
      have hb := Bd.ade hb ea_8 eb_9
      cases hf
      exact rb_out C (fun _ z => absurd z List.not_mem_nil) hb.e.2.1 hb.e.2.2 ⟨rfl, rfl, hb.e.1⟩
    have hf := (if_neg c_22).symm.trans hf
    cases hf
def f_X1_count_j27_14 (Ev : rb_E) (y2_l4_1 : Int32) (y3_l4_1 : Int32) (rec_l4_1 : Int32 → Int32 → Option Int32) (w0_j27_14 : Int32) : Option Int32 := (rec_l4_1 (y2_l4_1 + w0_j27_14) (y3_l4_1 + 1))
def f_X1_count_l4_1 (Ev : rb_E) (x0 : Nat) (x1 : Int32) (h : AH) : Nat → Int32 → Int32 → Option Int32
  | 0, _, _ => none
  | k_l4_1 + 1, y2_l4_1, y3_l4_1 => ((hp_k Ev h x0 14).bind fun u_2 => ((f_J2_length Ev h x0).bind fun v_5 => (if v_5 ≤ y3_l4_1 then (some y2_l4_1) else ((hp_k Ev h x0 14).bind fun u_8 => ((f_J2_charAt Ev h x0 y3_l4_1).bind fun v_11 => (if v_11 = x1 then (f_X1_count_j27_14 Ev y2_l4_1 y3_l4_1 (f_X1_count_l4_1 Ev x0 x1 h k_l4_1) 1) else (f_X1_count_j27_14 Ev y2_l4_1 y3_l4_1 (f_X1_count_l4_1 Ev x0 x1 h k_l4_1) 0)))))))
def f_X1_count (Ev : rb_E) (h : AH) (x0 : Nat) (x1 : Int32) : Option Int32 := (f_X1_count_l4_1 Ev x0 x1 h 4096 0 0)
abbrev rm_X1_count : Room := { frames := 5, cells := 0, slots := 0, locals := 106 }
set_option maxHeartbeats 4000000 in
theorem ct_X1_count (Ev : rb_E) (h : AH) (n : Nat) (x0 : Nat) (x1 : Int32) (r : Int32) (hf : f_X1_count Ev h x0 x1 = some r) : Ct Ev yX1_count (ws_ yX1_count cX1_count 4 (some .int)) (rm_X1_count) [.ref x0, .int x1] h n (pXi .int r h n) := by
  rw [f_X1_count] at hf
  refine Ct.of rfl (Nat.le_of_ble_eq_true rfl) fun X C hnm => ?_
  have C : Cx Ev X RX1 cX1_count 4 (some .int) [] := C
  show Wa Ev X (rm_X1_count) 4 h n 0 0 (rb_MQ Ev X (rm_X1_count) (pXi .int r h n)) 0 [(0, .ref x0), (1, .int x1)] []
  refine rb_iconst (v := 0) C dX1_count_0 rfl ?_
  refine rb_istore_n (lv' := [(2, .int 0), (0, .ref x0), (1, .int x1)]) C dX1_count_1 rfl (by decide) rfl ?_
  refine rb_iconst (v := 0) C dX1_count_2 rfl ?_
  refine rb_istore_n (lv' := [(3, .int 0), (2, .int 0), (0, .ref x0), (1, .int x1)]) C dX1_count_3 rfl (by decide) rfl ?_
  have L_l4_1 : ∀ (k_l4_1 : Nat) (y2_l4_1 : Int32) (y3_l4_1 : Int32), f_X1_count_l4_1 Ev x0 x1 h k_l4_1 y2_l4_1 y3_l4_1 = some r → Wa Ev X (rm_X1_count) 4 h n 0 0 (rb_MQ Ev X (rm_X1_count) (pXi .int r h n)) 4 [(0, .ref x0), (1, .int x1), (2, .int y2_l4_1), (3, .int y3_l4_1)] [] := by
    intro k_l4_1
    induction k_l4_1 with
    | zero => intro y2_l4_1 y3_l4_1 hf; cases hf
    | succ k_l4_1 ih_l4_1 =>
      intro y2_l4_1 y3_l4_1 hf
      rw [f_X1_count_l4_1] at hf
      refine rb_iload_n C dX1_count_4 rfl 3 rfl ?_
      refine rb_aload_n C dX1_count_5 rfl 0 rfl ?_
      obtain ⟨u_2, e_3, hf⟩ := rb_bd hf
      obtain ⟨v_5, e_6, hf⟩ := rb_bd hf
      refine rb_callV (As := []) (rest := [.int y3_l4_1]) C mi_J2_length sv_X1_228 (hp_k_isC C.pf e_3 ck_J2) (ct_J2_length Ev h n x0 _ e_6) rfl rfl (Nat.le_of_ble_eq_true rfl) ⟨Nat.le_of_ble_eq_true rfl, Nat.le_of_ble_eq_true rfl, (Nat.zero_le _), (Nat.zero_le _)⟩ dX1_count_6 rb_xXi (rb_kXi fun hn_4 => (rb_w (kc := 0) (ks := 0) rfl rfl ?_))
      refine rb_icmp_ge (tgt := 35) C dX1_count_9 (by decide) (fun c_7 => ?_) (fun c_7 => ?_)
      · have hf := (if_pos c_7).symm.trans hf
        refine rb_iload_n C dX1_count_35 rfl 2 rfl ?_
        cases hf
        exact rb_iret C rfl rfl (Nat.zero_le _) (Nat.zero_le _) dX1_count_36 ⟨rfl, rfl, rfl, rfl⟩
      · have hf := (if_neg c_7).symm.trans hf
        refine rb_iload_n C dX1_count_12 rfl 2 rfl ?_
        refine rb_aload_n C dX1_count_13 rfl 0 rfl ?_
        refine rb_iload_n C dX1_count_14 rfl 3 rfl ?_
        obtain ⟨u_8, e_9, hf⟩ := rb_bd hf
        obtain ⟨v_11, e_12, hf⟩ := rb_bd hf
        refine rb_callV (As := [.int y3_l4_1]) (rest := [.int y2_l4_1]) C mi_J2_charAt sv_X1_233 (hp_k_isC C.pf e_9 ck_J2) (ct_J2_charAt Ev h n x0 y3_l4_1 _ e_12) rfl rfl (Nat.le_of_ble_eq_true rfl) ⟨Nat.le_of_ble_eq_true rfl, Nat.le_of_ble_eq_true rfl, (Nat.zero_le _), (Nat.zero_le _)⟩ dX1_count_15 rb_xXi (rb_kXi fun hn_10 => (rb_w (kc := 0) (ks := 0) rfl rfl ?_))
        refine rb_iload_n C dX1_count_18 rfl 1 rfl ?_
        have J_j27_14 : ∀ (w0_j27_14 : Int32), f_X1_count_j27_14 Ev y2_l4_1 y3_l4_1 (f_X1_count_l4_1 Ev x0 x1 h k_l4_1) w0_j27_14 = some r → Wa Ev X (rm_X1_count) 4 h n 0 0 (rb_MQ Ev X (rm_X1_count) (pXi .int r h n)) 27 [(0, .ref x0), (1, .int x1), (2, .int y2_l4_1), (3, .int y3_l4_1)] [.int w0_j27_14, .int y2_l4_1] := by
          intro w0_j27_14 hf
          rw [f_X1_count_j27_14] at hf
          refine rb_iadd C dX1_count_27 ?_
          refine rb_istore_n (lv' := [(2, .int (y2_l4_1 + w0_j27_14)), (0, .ref x0), (1, .int x1), (3, .int y3_l4_1)]) C dX1_count_28 rfl (by decide) rfl ?_
          refine rb_iinc (v := (y3_l4_1 + 1)) (lv' := [(3, .int (y3_l4_1 + 1)), (2, .int (y2_l4_1 + w0_j27_14)), (0, .ref x0), (1, .int x1)]) C dX1_count_29 (k := 3) rfl rfl (by decide) rfl ?_
          refine rb_goto (tgt := 4) C dX1_count_32 (by decide) ?_
          refine rb_sub [2, 3, 1, 0] rfl ?_
          exact ih_l4_1 (y2_l4_1 + w0_j27_14) (y3_l4_1 + 1) hf
        refine rb_icmp_ne (tgt := 26) C dX1_count_19 (by decide) (fun c_13 => ?_) (fun c_13 => ?_)
        · have hf := (if_neg c_13).symm.trans hf
          refine rb_iconst (v := 0) C dX1_count_26 rfl ?_
          exact J_j27_14 0 hf
        · have hf := (if_pos c_13).symm.trans hf
          refine rb_iconst (v := 1) C dX1_count_22 rfl ?_
          refine rb_goto (tgt := 27) C dX1_count_23 (by decide) ?_
          exact J_j27_14 1 hf
  refine rb_sub [2, 3, 1, 0] rfl ?_
  exact L_l4_1 4096 0 0 hf
def f_X1_pairs (Ev : rb_E) (h : AH) (n : Nat) (o : Nat) : Option ((Int32 ⊕ (String × Nat)) × AH × Nat × Nat) := ((hp_k Ev h o 0).bind fun u_1 => ((f_X1_tree Ev h n o).bind fun (r_4, h_5, k_6, s_7) => (ad k_6 s_7 (match r_4 with | .inl v_13 => ((hp_p Ev h_5 o 0 0).bind fun v_16 => ((hp_p Ev h_5 v_16 1 0).bind fun v_18 => ((hp_k Ev h_5 v_18 13).bind fun u_20 => ((f_J1_toString Ev h_5 (n + k_6) v_18).bind fun (r_23, h_24, k_25, s_26) => (ad k_25 s_26 ((f_X1_count Ev h_24 r_23 40).bind fun v_33 => (some (.inl v_33, h_24, 0, 0)))))))) | .inr (E_14, q_15) => (if E_14 = "java/lang/UnsupportedOperationException" then (some (.inr ("java/lang/UnsupportedOperationException", q_15), h_5, 0, 0)) else none)))))
abbrev rm_X1_pairs (k s : Nat) : Room := { frames := 75, cells := k, slots := s, locals := 2866 }
set_option maxHeartbeats 4000000 in
theorem ct_X1_pairs (Ev : rb_E) (h : AH) (n : Nat) (o : Nat) (r : Int32 ⊕ (String × Nat)) (h' : AH) (k s : Nat) (hf : f_X1_pairs Ev h n o = some (r, h', k, s)) : Ct Ev yX1_pairs (ws_ yX1_pairs cX1_pairs 2 (some .int)) (rm_X1_pairs k s) [.ref o] h n (pX (rMap (fun v => some (.int v)) r) h' (n + k)) := by
  rw [f_X1_pairs] at hf
  refine Ct.of rfl (Nat.le_of_ble_eq_true rfl) fun X C hnm => ?_
  have C : Cx Ev X RX1 cX1_pairs 2 (some .int) [] := C
  show Wa Ev X (rm_X1_pairs k s) 2 h n 0 0 (rb_MQ Ev X (rm_X1_pairs k s) (pX (rMap (fun v => some (.int v)) r) h' (n + k))) 0 [(0, .ref o)] []
  have hb : Bd (n + k) k s n 0 0 k s := ⟨rfl, Nat.le_of_eq (Nat.zero_add _), Nat.le_of_eq (Nat.zero_add _)⟩
  refine rb_aload_n C dX1_pairs_0 rfl 0 rfl ?_
  obtain ⟨u_1, e_2, hf⟩ := rb_bd hf
  obtain ⟨⟨r_4, h_5, k_6, s_7⟩, e_8, hf⟩ := rb_bd hf
  obtain ⟨a_11, b_12, hf, ea_9, eb_10⟩ := ad_at hf
  rcases r_4 with v_13 | ⟨E_14, q_15⟩
  · dsimp only at hf
    refine rb_callVX (As := []) (rest := []) C mi_X1_tree sv_X1_239 (hp_k_isC C.pf e_2 ck_X1) (ct_X1_tree Ev h n o (.inl v_13) _ _ _ e_8) rfl rfl (Nat.le_of_ble_eq_true rfl) ⟨Nat.le_of_ble_eq_true rfl, Nat.le_of_ble_eq_true rfl, Bd.c1 hb ea_9, Bd.s1 hb eb_10⟩ dX1_pairs_1 rb_xX (rb_kX (r := some (.ref v_13)) (rb_w (kc := (0 + k_6)) (ks := (0 + s_7)) rfl rfl ?_))
    have hb := Bd.ade hb ea_9 eb_10
    refine rb_astore_n (lv' := [(1, .ref v_13), (0, .ref o)]) C dX1_pairs_4 rfl (by decide) rfl ?_
    refine rb_aload_n C dX1_pairs_5 rfl 1 rfl ?_
    obtain ⟨v_16, e_17, hf⟩ := rb_bd hf
    refine rb_hP C fl_X1_104_X1 e_17 dX1_pairs_6 ?_
    obtain ⟨v_18, e_19, hf⟩ := rb_bd hf
    refine rb_hP C fl_X1_182_X2 e_19 dX1_pairs_9 ?_
    obtain ⟨u_20, e_21, hf⟩ := rb_bd hf
    obtain ⟨⟨r_23, h_24, k_25, s_26⟩, e_27, hf⟩ := rb_bd hf
    obtain ⟨a_30, b_31, hf, ea_28, eb_29⟩ := ad_at hf
    refine rb_callV (As := []) (rest := []) C mi_J1_toString sv_X1_78 (hp_k_isC C.pf e_21 ck_J1) (ct_J1_toString Ev h_5 (n + k_6) v_18 r_23 _ _ _ e_27) rfl rfl (Nat.le_of_ble_eq_true rfl) ⟨Nat.le_of_ble_eq_true rfl, Nat.le_of_ble_eq_true rfl, Bd.c1 hb ea_28, Bd.s1 hb eb_29⟩ dX1_pairs_12 rb_xX (rb_kX (rb_w (kc := ((0 + k_6) + k_25)) (ks := ((0 + s_7) + s_26)) rfl rfl ?_))
    have hb := Bd.ade hb ea_28 eb_29
    refine rb_bipush (v := 40) C dX1_pairs_15 rfl ?_
    obtain ⟨v_33, e_34, hf⟩ := rb_bd hf
    refine rb_callS (As := [.ref r_23, .int 40]) (rest := []) C mi_X1_count ss_X1_259 (ct_X1_count Ev h_24 ((n + k_6) + k_25) r_23 40 _ e_34) rfl rfl (Nat.le_of_ble_eq_true rfl) ⟨Nat.le_of_ble_eq_true rfl, Nat.le_of_ble_eq_true rfl, hb.c0, hb.s0⟩ dX1_pairs_17 rb_xXi (rb_kXi fun hn_32 => (rb_w (kc := ((0 + k_6) + k_25)) (ks := ((0 + s_7) + s_26)) rfl rfl ?_))
    cases hf
    exact rb_iret C rfl rfl hb.e.2.1 hb.e.2.2 dX1_pairs_20 ⟨rfl, rfl, hb.e.1⟩
  · dsimp only at hf
    by_cases c_35 : E_14 = "java/lang/UnsupportedOperationException"
    · have hf := (if_pos c_35).symm.trans hf
      subst c_35
      refine rb_callVX (As := []) (rest := []) C mi_X1_tree sv_X1_239 (hp_k_isC C.pf e_2 ck_X1) (ct_X1_tree Ev h n o (.inr ("java/lang/UnsupportedOperationException", q_15)) _ _ _ e_8) rfl rfl (Nat.le_of_ble_eq_true rfl) ⟨Nat.le_of_ble_eq_true rfl, Nat.le_of_ble_eq_true rfl, Bd.c1 hb ea_9, Bd.s1 hb eb_10⟩ dX1_pairs_1 (rb_xY (E := "java/lang/UnsupportedOperationException") (rb_wX (kc := (0 + k_6)) (ks := (0 + s_7)) rfl rfl ?_)) rb_kY
      have hb := Bd.ade hb ea_9 eb_10
      cases hf
      exact rb_out C (fun _ z => absurd z List.not_mem_nil) hb.e.2.1 hb.e.2.2 ⟨rfl, rfl, hb.e.1⟩
    have hf := (if_neg c_35).symm.trans hf
    cases hf
def f_X1_fullText (Ev : rb_E) : Nat → AH → Nat → Nat → Option (Nat × AH × Nat × Nat)
  | 0, _, _, _ => none
  | d + 1, h, n, x0 => ((hp_isa Ev h x0 [6] [7, 8]).bind fun v_1 => (if v_1 = 0 then ((hp_isa Ev h x0 [8] [6, 7]).bind fun v_4 => (if v_4 = 0 then ((hp_isa Ev h x0 [7] [6, 8]).bind fun v_7 => (if v_7 = 0 then (some ((eS Ev RX1 93), h, 0, 0)) else ((hp_ca Ev h x0 [7]).bind fun u_10 => (ad 1 4 (rb_lt (va_up h n (some (.inr (13, [.null, .int 0, .int 0, .int 0])))) fun h_16 => ((f_J1_init Ev h_16 (n + 1) n).bind fun (r_18, h_19, k_20, s_21) => (ad k_20 s_21 ((hp_k Ev h_19 n 13).bind fun u_27 => ((f_J1_append_3 Ev h_19 ((n + 1) + k_20) n (eS Ev RX1 93)).bind fun (r_30, h_31, k_32, s_33) => (ad k_32 s_33 ((hp_i Ev h_31 x0 7 1).bind fun v_39 => ((hp_k Ev h_31 r_30 13).bind fun u_41 => ((f_J1_append_7 Ev h_31 (((n + 1) + k_20) + k_32) r_30 v_39).bind fun (r_44, h_45, k_46, s_47) => (ad k_46 s_47 ((hp_k Ev h_45 r_44 13).bind fun u_53 => ((f_J1_toString Ev h_45 ((((n + 1) + k_20) + k_32) + k_46) r_44).bind fun (r_56, h_57, k_58, s_59) => (ad k_58 s_59 (some (r_56, h_57, 0, 0))))))))))))))))))) else ((hp_ca Ev h x0 [8]).bind fun u_65 => (ad 1 4 (rb_lt (va_up h n (some (.inr (13, [.null, .int 0, .int 0, .int 0])))) fun h_71 => ((f_J1_init Ev h_71 (n + 1) n).bind fun (r_73, h_74, k_75, s_76) => (ad k_75 s_76 ((hp_k Ev h_74 n 13).bind fun u_82 => ((f_J1_append_3 Ev h_74 ((n + 1) + k_75) n (eS Ev RX1 82)).bind fun (r_85, h_86, k_87, s_88) => (ad k_87 s_88 ((hp_p Ev h_86 x0 8 2).bind fun v_94 => (((f_X1_fullText Ev d) h_86 (((n + 1) + k_75) + k_87) v_94).bind fun (r_97, h_98, k_99, s_100) => (ad k_99 s_100 ((hp_k Ev h_98 r_85 13).bind fun u_106 => ((f_J1_append_3 Ev h_98 ((((n + 1) + k_75) + k_87) + k_99) r_85 r_97).bind fun (r_109, h_110, k_111, s_112) => (ad k_111 s_112 ((hp_i Ev h_110 x0 8 1).bind fun v_118 => ((hp_k Ev h_110 r_109 13).bind fun u_120 => ((f_J1_append_7 Ev h_110 (((((n + 1) + k_75) + k_87) + k_99) + k_111) r_109 v_118).bind fun (r_123, h_124, k_125, s_126) => (ad k_125 s_126 ((hp_p Ev h_124 x0 8 3).bind fun v_132 => (((f_X1_fullText Ev d) h_124 ((((((n + 1) + k_75) + k_87) + k_99) + k_111) + k_125) v_132).bind fun (r_135, h_136, k_137, s_138) => (ad k_137 s_138 ((hp_k Ev h_136 r_123 13).bind fun u_144 => ((f_J1_append_3 Ev h_136 (((((((n + 1) + k_75) + k_87) + k_99) + k_111) + k_125) + k_137) r_123 r_135).bind fun (r_147, h_148, k_149, s_150) => (ad k_149 s_150 ((hp_k Ev h_148 r_147 13).bind fun u_156 => ((f_J1_append_3 Ev h_148 ((((((((n + 1) + k_75) + k_87) + k_99) + k_111) + k_125) + k_137) + k_149) r_147 (eS Ev RX1 76)).bind fun (r_159, h_160, k_161, s_162) => (ad k_161 s_162 ((hp_k Ev h_160 r_159 13).bind fun u_168 => ((f_J1_toString Ev h_160 (((((((((n + 1) + k_75) + k_87) + k_99) + k_111) + k_125) + k_137) + k_149) + k_161) r_159).bind fun (r_171, h_172, k_173, s_174) => (ad k_173 s_174 (some (r_171, h_172, 0, 0)))))))))))))))))))))))))))))))))) else ((hp_ca Ev h x0 [6]).bind fun u_180 => (ad 1 4 (rb_lt (va_up h n (some (.inr (13, [.null, .int 0, .int 0, .int 0])))) fun h_186 => ((f_J1_init Ev h_186 (n + 1) n).bind fun (r_188, h_189, k_190, s_191) => (ad k_190 s_191 ((hp_k Ev h_189 n 13).bind fun u_197 => ((f_J1_append_3 Ev h_189 ((n + 1) + k_190) n (eS Ev RX1 66)).bind fun (r_200, h_201, k_202, s_203) => (ad k_202 s_203 ((hp_p Ev h_201 x0 6 1).bind fun v_209 => (((f_X1_fullText Ev d) h_201 (((n + 1) + k_190) + k_202) v_209).bind fun (r_212, h_213, k_214, s_215) => (ad k_214 s_215 ((hp_k Ev h_213 r_200 13).bind fun u_221 => ((f_J1_append_3 Ev h_213 ((((n + 1) + k_190) + k_202) + k_214) r_200 r_212).bind fun (r_224, h_225, k_226, s_227) => (ad k_226 s_227 ((hp_k Ev h_225 r_224 13).bind fun u_233 => ((f_J1_append_3 Ev h_225 (((((n + 1) + k_190) + k_202) + k_214) + k_226) r_224 (eS Ev RX1 76)).bind fun (r_236, h_237, k_238, s_239) => (ad k_238 s_239 ((hp_k Ev h_237 r_236 13).bind fun u_245 => ((f_J1_toString Ev h_237 ((((((n + 1) + k_190) + k_202) + k_214) + k_226) + k_238) r_236).bind fun (r_248, h_249, k_250, s_251) => (ad k_250 s_251 (some (r_248, h_249, 0, 0))))))))))))))))))))))))
abbrev rm_X1_fullText (d : Nat) (k s : Nat) : Room := { frames := 12 + 2 * d, cells := k, slots := s, locals := 400 + 80 * d }
set_option maxHeartbeats 4000000 in
theorem ct_X1_fullText (Ev : rb_E) (h : AH) (n : Nat) (d : Nat) (x0 : Nat) (r : Nat) (h' : AH) (k s : Nat) (hf : f_X1_fullText Ev d h n x0 = some (r, h', k, s)) : Ct Ev yX1_fullText (ws_ yX1_fullText cX1_fullText 2 (some (.object "java/lang/String"))) (rm_X1_fullText d k s) [.ref x0] h n (pX (.inl (some (.ref r))) h' (n + k)) := by
  induction d generalizing h n x0 r h' k s with
  | zero => cases hf
  | succ d ih =>
    rw [f_X1_fullText] at hf
    refine Ct.of rfl (Nat.le_of_ble_eq_true rfl) fun X C hnm => ?_
    have C : Cx Ev X RX1 cX1_fullText 2 (some (.object "java/lang/String")) [] := C
    show Wa Ev X (rm_X1_fullText (d + 1) k s) 2 h n 0 0 (rb_MQ Ev X (rm_X1_fullText (d + 1) k s) (pX (.inl (some (.ref r))) h' (n + k))) 0 [(0, .ref x0)] []
    have hb : Bd (n + k) k s n 0 0 k s := ⟨rfl, Nat.le_of_eq (Nat.zero_add _), Nat.le_of_eq (Nat.zero_add _)⟩
    refine rb_aload_n C dX1_fullText_0 rfl 0 rfl ?_
    obtain ⟨v_1, e_2, hf⟩ := rb_bd hf
    refine rb_hin C q1675 okp_RainbowOperators_Cloud okn_RainbowOperators_Cloud e_2 dX1_fullText_1 ?_
    refine rb_if_eq (tgt := 43) C dX1_fullText_4 (by decide) (fun c_3 => ?_) (fun c_3 => ?_)
    · have hf := (if_pos c_3).symm.trans hf
      refine rb_aload_n C dX1_fullText_43 rfl 0 rfl ?_
      obtain ⟨v_4, e_5, hf⟩ := rb_bd hf
      refine rb_hin C q1676 okp_RainbowOperators_Application okn_RainbowOperators_Application e_5 dX1_fullText_44 ?_
      refine rb_if_eq (tgt := 103) C dX1_fullText_47 (by decide) (fun c_6 => ?_) (fun c_6 => ?_)
      · have hf := (if_pos c_6).symm.trans hf
        refine rb_aload_n C dX1_fullText_103 rfl 0 rfl ?_
        obtain ⟨v_7, e_8, hf⟩ := rb_bd hf
        refine rb_hin C q1642 okp_RainbowOperators_Operand okn_RainbowOperators_Operand e_8 dX1_fullText_104 ?_
        refine rb_if_eq (tgt := 140) C dX1_fullText_107 (by decide) (fun c_9 => ?_) (fun c_9 => ?_)
        · have hf := (if_pos c_9).symm.trans hf
          refine rb_ldcS C q227 dX1_fullText_140 ?_
          cases hf
          exact rb_aret C rfl (Or.inl ⟨_, rfl⟩) (Or.inr ⟨_, rfl⟩) hb.e.2.1 hb.e.2.2 dX1_fullText_142 ⟨rfl, rfl, hb.e.1⟩
        · have hf := (if_neg c_9).symm.trans hf
          refine rb_aload_n C dX1_fullText_110 rfl 0 rfl ?_
          obtain ⟨u_10, e_11, hf⟩ := rb_bd hf
          refine rb_hca C q1642 okp_RainbowOperators_Operand e_11 dX1_fullText_111 ?_
          refine rb_astore_n (lv' := [(1, .ref x0), (0, .ref x0)]) C dX1_fullText_114 rfl (by decide) rfl ?_
          obtain ⟨a_14, b_15, hf, ea_12, eb_13⟩ := ad_at hf
          refine rb_hnew C ck_J1 q225 q132 q72 [.null, .int 0, .int 0, .int 0] rfl (Bd.c1 hb ea_12) (Bd.s1 hb eb_13) dX1_fullText_115 ?_
          have hb := Bd.ade hb ea_12 eb_13
          obtain ⟨h_16, e_h_16⟩ : ∃ z, z = (va_up h n (some (.inr (13, [.null, .int 0, .int 0, .int 0])))) := ⟨_, rfl⟩
          rw [← e_h_16]
          have hf := rb_let hf e_h_16
          refine rb_dup C dX1_fullText_118 rfl ?_
          obtain ⟨⟨r_18, h_19, k_20, s_21⟩, e_22, hf⟩ := rb_bd hf
          obtain ⟨a_25, b_26, hf, ea_23, eb_24⟩ := ad_at hf
          refine rb_callI (As := []) (rest := [.ref n]) C mi_J1_init si_X1_65 (ct_J1_init Ev h_16 (n + 1) n r_18 _ _ _ e_22) rfl rfl (Nat.le_of_ble_eq_true rfl) ⟨by show 2 + 1 ≤ 12 + 2 * (d + 1); omega, by show 8 + (1 + 11) + 61 ≤ 400 + 80 * (d + 1); omega, Bd.c1 hb ea_23, Bd.s1 hb eb_24⟩ dX1_fullText_119 rb_xX (rb_kX (rb_w (kc := ((0 + 1) + k_20)) (ks := ((0 + 4) + s_21)) rfl rfl ?_))
          have hb := Bd.ade hb ea_23 eb_24
          refine rb_ldcS C q227 dX1_fullText_122 ?_
          obtain ⟨u_27, e_28, hf⟩ := rb_bd hf
          obtain ⟨⟨r_30, h_31, k_32, s_33⟩, e_34, hf⟩ := rb_bd hf
          obtain ⟨a_37, b_38, hf, ea_35, eb_36⟩ := ad_at hf
          refine rb_callV (As := [.ref (eS Ev RX1 93)]) (rest := []) C mi_J1_append_3 sv_X1_68 (hp_k_isC C.pf e_28 ck_J1) (ct_J1_append_3 Ev h_19 ((n + 1) + k_20) n (eS Ev RX1 93) r_30 _ _ _ e_34) rfl rfl (Nat.le_of_ble_eq_true rfl) ⟨by show 9 + 1 ≤ 12 + 2 * (d + 1); omega, by show 8 + (2 + 11) + 202 ≤ 400 + 80 * (d + 1); omega, Bd.c1 hb ea_35, Bd.s1 hb eb_36⟩ dX1_fullText_124 rb_xX (rb_kX (rb_w (kc := (((0 + 1) + k_20) + k_32)) (ks := (((0 + 4) + s_21) + s_33)) rfl rfl ?_))
          have hb := Bd.ade hb ea_35 eb_36
          refine rb_aload_n C dX1_fullText_127 rfl 0 rfl ?_
          obtain ⟨v_39, e_40, hf⟩ := rb_bd hf
          refine rb_hI C fl_X1_95_X9 e_40 dX1_fullText_128 ?_
          obtain ⟨u_41, e_42, hf⟩ := rb_bd hf
          obtain ⟨⟨r_44, h_45, k_46, s_47⟩, e_48, hf⟩ := rb_bd hf
          obtain ⟨a_51, b_52, hf, ea_49, eb_50⟩ := ad_at hf
          refine rb_callV (As := [.int v_39]) (rest := []) C mi_J1_append_7 sv_X1_88 (hp_k_isC C.pf e_42 ck_J1) (ct_J1_append_7 Ev h_31 (((n + 1) + k_20) + k_32) r_30 v_39 r_44 _ _ _ e_48) rfl rfl (Nat.le_of_ble_eq_true rfl) ⟨by show 7 + 1 ≤ 12 + 2 * (d + 1); omega, by show 8 + (2 + 11) + 158 ≤ 400 + 80 * (d + 1); omega, Bd.c1 hb ea_49, Bd.s1 hb eb_50⟩ dX1_fullText_131 rb_xX (rb_kX (rb_w (kc := ((((0 + 1) + k_20) + k_32) + k_46)) (ks := ((((0 + 4) + s_21) + s_33) + s_47)) rfl rfl ?_))
          have hb := Bd.ade hb ea_49 eb_50
          obtain ⟨u_53, e_54, hf⟩ := rb_bd hf
          obtain ⟨⟨r_56, h_57, k_58, s_59⟩, e_60, hf⟩ := rb_bd hf
          obtain ⟨a_63, b_64, hf, ea_61, eb_62⟩ := ad_at hf
          refine rb_callV (As := []) (rest := []) C mi_J1_toString sv_X1_78 (hp_k_isC C.pf e_54 ck_J1) (ct_J1_toString Ev h_45 ((((n + 1) + k_20) + k_32) + k_46) r_44 r_56 _ _ _ e_60) rfl rfl (Nat.le_of_ble_eq_true rfl) ⟨by show 7 + 1 ≤ 12 + 2 * (d + 1); omega, by show 8 + (1 + 11) + 176 ≤ 400 + 80 * (d + 1); omega, Bd.c1 hb ea_61, Bd.s1 hb eb_62⟩ dX1_fullText_134 rb_xX (rb_kX (rb_w (kc := (((((0 + 1) + k_20) + k_32) + k_46) + k_58)) (ks := (((((0 + 4) + s_21) + s_33) + s_47) + s_59)) rfl rfl ?_))
          have hb := Bd.ade hb ea_61 eb_62
          refine rb_goto (tgt := 142) C dX1_fullText_137 (by decide) ?_
          cases hf
          exact rb_aret C rfl (Or.inl ⟨_, rfl⟩) (Or.inr ⟨_, rfl⟩) hb.e.2.1 hb.e.2.2 dX1_fullText_142 ⟨rfl, rfl, hb.e.1⟩
      · have hf := (if_neg c_6).symm.trans hf
        refine rb_aload_n C dX1_fullText_50 rfl 0 rfl ?_
        obtain ⟨u_65, e_66, hf⟩ := rb_bd hf
        refine rb_hca C q1676 okp_RainbowOperators_Application e_66 dX1_fullText_51 ?_
        refine rb_astore_n (lv' := [(1, .ref x0), (0, .ref x0)]) C dX1_fullText_54 rfl (by decide) rfl ?_
        obtain ⟨a_69, b_70, hf, ea_67, eb_68⟩ := ad_at hf
        refine rb_hnew C ck_J1 q225 q132 q72 [.null, .int 0, .int 0, .int 0] rfl (Bd.c1 hb ea_67) (Bd.s1 hb eb_68) dX1_fullText_55 ?_
        have hb := Bd.ade hb ea_67 eb_68
        obtain ⟨h_71, e_h_71⟩ : ∃ z, z = (va_up h n (some (.inr (13, [.null, .int 0, .int 0, .int 0])))) := ⟨_, rfl⟩
        rw [← e_h_71]
        have hf := rb_let hf e_h_71
        refine rb_dup C dX1_fullText_58 rfl ?_
        obtain ⟨⟨r_73, h_74, k_75, s_76⟩, e_77, hf⟩ := rb_bd hf
        obtain ⟨a_80, b_81, hf, ea_78, eb_79⟩ := ad_at hf
        refine rb_callI (As := []) (rest := [.ref n]) C mi_J1_init si_X1_65 (ct_J1_init Ev h_71 (n + 1) n r_73 _ _ _ e_77) rfl rfl (Nat.le_of_ble_eq_true rfl) ⟨by show 2 + 1 ≤ 12 + 2 * (d + 1); omega, by show 8 + (1 + 11) + 61 ≤ 400 + 80 * (d + 1); omega, Bd.c1 hb ea_78, Bd.s1 hb eb_79⟩ dX1_fullText_59 rb_xX (rb_kX (rb_w (kc := ((0 + 1) + k_75)) (ks := ((0 + 4) + s_76)) rfl rfl ?_))
        have hb := Bd.ade hb ea_78 eb_79
        refine rb_ldcS C q1716 dX1_fullText_62 ?_
        obtain ⟨u_82, e_83, hf⟩ := rb_bd hf
        obtain ⟨⟨r_85, h_86, k_87, s_88⟩, e_89, hf⟩ := rb_bd hf
        obtain ⟨a_92, b_93, hf, ea_90, eb_91⟩ := ad_at hf
        refine rb_callV (As := [.ref (eS Ev RX1 82)]) (rest := []) C mi_J1_append_3 sv_X1_68 (hp_k_isC C.pf e_83 ck_J1) (ct_J1_append_3 Ev h_74 ((n + 1) + k_75) n (eS Ev RX1 82) r_85 _ _ _ e_89) rfl rfl (Nat.le_of_ble_eq_true rfl) ⟨by show 9 + 1 ≤ 12 + 2 * (d + 1); omega, by show 8 + (2 + 11) + 202 ≤ 400 + 80 * (d + 1); omega, Bd.c1 hb ea_90, Bd.s1 hb eb_91⟩ dX1_fullText_64 rb_xX (rb_kX (rb_w (kc := (((0 + 1) + k_75) + k_87)) (ks := (((0 + 4) + s_76) + s_88)) rfl rfl ?_))
        have hb := Bd.ade hb ea_90 eb_91
        refine rb_aload_n C dX1_fullText_67 rfl 0 rfl ?_
        obtain ⟨v_94, e_95, hf⟩ := rb_bd hf
        refine rb_hP C fl_X1_51_X10 e_95 dX1_fullText_68 ?_
        obtain ⟨⟨r_97, h_98, k_99, s_100⟩, e_101, hf⟩ := rb_bd hf
        obtain ⟨a_104, b_105, hf, ea_102, eb_103⟩ := ad_at hf
        refine rb_callS (As := [.ref v_94]) (rest := [.ref r_85]) C mi_X1_fullText ss_X1_72 (ih h_86 (((n + 1) + k_75) + k_87) v_94 r_97 _ _ _ e_101) rfl rfl (Nat.le_of_ble_eq_true rfl) ⟨by show (12 + 2 * d) + 1 ≤ 12 + 2 * (d + 1); omega, by show 8 + (2 + 11) + (400 + 80 * d) ≤ 400 + 80 * (d + 1); omega, Bd.c1 hb ea_102, Bd.s1 hb eb_103⟩ dX1_fullText_71 rb_xX (rb_kX (rb_w (kc := ((((0 + 1) + k_75) + k_87) + k_99)) (ks := ((((0 + 4) + s_76) + s_88) + s_100)) rfl rfl ?_))
        have hb := Bd.ade hb ea_102 eb_103
        obtain ⟨u_106, e_107, hf⟩ := rb_bd hf
        obtain ⟨⟨r_109, h_110, k_111, s_112⟩, e_113, hf⟩ := rb_bd hf
        obtain ⟨a_116, b_117, hf, ea_114, eb_115⟩ := ad_at hf
        refine rb_callV (As := [.ref r_97]) (rest := []) C mi_J1_append_3 sv_X1_68 (hp_k_isC C.pf e_107 ck_J1) (ct_J1_append_3 Ev h_98 ((((n + 1) + k_75) + k_87) + k_99) r_85 r_97 r_109 _ _ _ e_113) rfl rfl (Nat.le_of_ble_eq_true rfl) ⟨by show 9 + 1 ≤ 12 + 2 * (d + 1); omega, by show 8 + (2 + 11) + 202 ≤ 400 + 80 * (d + 1); omega, Bd.c1 hb ea_114, Bd.s1 hb eb_115⟩ dX1_fullText_74 rb_xX (rb_kX (rb_w (kc := (((((0 + 1) + k_75) + k_87) + k_99) + k_111)) (ks := (((((0 + 4) + s_76) + s_88) + s_100) + s_112)) rfl rfl ?_))
        have hb := Bd.ade hb ea_114 eb_115
        refine rb_aload_n C dX1_fullText_77 rfl 0 rfl ?_
        obtain ⟨v_118, e_119, hf⟩ := rb_bd hf
        refine rb_hI C fl_X1_84_X10 e_119 dX1_fullText_78 ?_
        obtain ⟨u_120, e_121, hf⟩ := rb_bd hf
        obtain ⟨⟨r_123, h_124, k_125, s_126⟩, e_127, hf⟩ := rb_bd hf
        obtain ⟨a_130, b_131, hf, ea_128, eb_129⟩ := ad_at hf
        refine rb_callV (As := [.int v_118]) (rest := []) C mi_J1_append_7 sv_X1_88 (hp_k_isC C.pf e_121 ck_J1) (ct_J1_append_7 Ev h_110 (((((n + 1) + k_75) + k_87) + k_99) + k_111) r_109 v_118 r_123 _ _ _ e_127) rfl rfl (Nat.le_of_ble_eq_true rfl) ⟨by show 7 + 1 ≤ 12 + 2 * (d + 1); omega, by show 8 + (2 + 11) + 158 ≤ 400 + 80 * (d + 1); omega, Bd.c1 hb ea_128, Bd.s1 hb eb_129⟩ dX1_fullText_81 rb_xX (rb_kX (rb_w (kc := ((((((0 + 1) + k_75) + k_87) + k_99) + k_111) + k_125)) (ks := ((((((0 + 4) + s_76) + s_88) + s_100) + s_112) + s_126)) rfl rfl ?_))
        have hb := Bd.ade hb ea_128 eb_129
        refine rb_aload_n C dX1_fullText_84 rfl 0 rfl ?_
        obtain ⟨v_132, e_133, hf⟩ := rb_bd hf
        refine rb_hP C fl_X1_54_X10 e_133 dX1_fullText_85 ?_
        obtain ⟨⟨r_135, h_136, k_137, s_138⟩, e_139, hf⟩ := rb_bd hf
        obtain ⟨a_142, b_143, hf, ea_140, eb_141⟩ := ad_at hf
        refine rb_callS (As := [.ref v_132]) (rest := [.ref r_123]) C mi_X1_fullText ss_X1_72 (ih h_124 ((((((n + 1) + k_75) + k_87) + k_99) + k_111) + k_125) v_132 r_135 _ _ _ e_139) rfl rfl (Nat.le_of_ble_eq_true rfl) ⟨by show (12 + 2 * d) + 1 ≤ 12 + 2 * (d + 1); omega, by show 8 + (2 + 11) + (400 + 80 * d) ≤ 400 + 80 * (d + 1); omega, Bd.c1 hb ea_140, Bd.s1 hb eb_141⟩ dX1_fullText_88 rb_xX (rb_kX (rb_w (kc := (((((((0 + 1) + k_75) + k_87) + k_99) + k_111) + k_125) + k_137)) (ks := (((((((0 + 4) + s_76) + s_88) + s_100) + s_112) + s_126) + s_138)) rfl rfl ?_))
        have hb := Bd.ade hb ea_140 eb_141
        obtain ⟨u_144, e_145, hf⟩ := rb_bd hf
        obtain ⟨⟨r_147, h_148, k_149, s_150⟩, e_151, hf⟩ := rb_bd hf
        obtain ⟨a_154, b_155, hf, ea_152, eb_153⟩ := ad_at hf
        refine rb_callV (As := [.ref r_135]) (rest := []) C mi_J1_append_3 sv_X1_68 (hp_k_isC C.pf e_145 ck_J1) (ct_J1_append_3 Ev h_136 (((((((n + 1) + k_75) + k_87) + k_99) + k_111) + k_125) + k_137) r_123 r_135 r_147 _ _ _ e_151) rfl rfl (Nat.le_of_ble_eq_true rfl) ⟨by show 9 + 1 ≤ 12 + 2 * (d + 1); omega, by show 8 + (2 + 11) + 202 ≤ 400 + 80 * (d + 1); omega, Bd.c1 hb ea_152, Bd.s1 hb eb_153⟩ dX1_fullText_91 rb_xX (rb_kX (rb_w (kc := ((((((((0 + 1) + k_75) + k_87) + k_99) + k_111) + k_125) + k_137) + k_149)) (ks := ((((((((0 + 4) + s_76) + s_88) + s_100) + s_112) + s_126) + s_138) + s_150)) rfl rfl ?_))
        have hb := Bd.ade hb ea_152 eb_153
        refine rb_ldcS C q1715 dX1_fullText_94 ?_
        obtain ⟨u_156, e_157, hf⟩ := rb_bd hf
        obtain ⟨⟨r_159, h_160, k_161, s_162⟩, e_163, hf⟩ := rb_bd hf
        obtain ⟨a_166, b_167, hf, ea_164, eb_165⟩ := ad_at hf
        refine rb_callV (As := [.ref (eS Ev RX1 76)]) (rest := []) C mi_J1_append_3 sv_X1_68 (hp_k_isC C.pf e_157 ck_J1) (ct_J1_append_3 Ev h_148 ((((((((n + 1) + k_75) + k_87) + k_99) + k_111) + k_125) + k_137) + k_149) r_147 (eS Ev RX1 76) r_159 _ _ _ e_163) rfl rfl (Nat.le_of_ble_eq_true rfl) ⟨by show 9 + 1 ≤ 12 + 2 * (d + 1); omega, by show 8 + (2 + 11) + 202 ≤ 400 + 80 * (d + 1); omega, Bd.c1 hb ea_164, Bd.s1 hb eb_165⟩ dX1_fullText_96 rb_xX (rb_kX (rb_w (kc := (((((((((0 + 1) + k_75) + k_87) + k_99) + k_111) + k_125) + k_137) + k_149) + k_161)) (ks := (((((((((0 + 4) + s_76) + s_88) + s_100) + s_112) + s_126) + s_138) + s_150) + s_162)) rfl rfl ?_))
        have hb := Bd.ade hb ea_164 eb_165
        obtain ⟨u_168, e_169, hf⟩ := rb_bd hf
        obtain ⟨⟨r_171, h_172, k_173, s_174⟩, e_175, hf⟩ := rb_bd hf
        obtain ⟨a_178, b_179, hf, ea_176, eb_177⟩ := ad_at hf
        refine rb_callV (As := []) (rest := []) C mi_J1_toString sv_X1_78 (hp_k_isC C.pf e_169 ck_J1) (ct_J1_toString Ev h_160 (((((((((n + 1) + k_75) + k_87) + k_99) + k_111) + k_125) + k_137) + k_149) + k_161) r_159 r_171 _ _ _ e_175) rfl rfl (Nat.le_of_ble_eq_true rfl) ⟨by show 7 + 1 ≤ 12 + 2 * (d + 1); omega, by show 8 + (1 + 11) + 176 ≤ 400 + 80 * (d + 1); omega, Bd.c1 hb ea_176, Bd.s1 hb eb_177⟩ dX1_fullText_99 rb_xX (rb_kX (rb_w (kc := ((((((((((0 + 1) + k_75) + k_87) + k_99) + k_111) + k_125) + k_137) + k_149) + k_161) + k_173)) (ks := ((((((((((0 + 4) + s_76) + s_88) + s_100) + s_112) + s_126) + s_138) + s_150) + s_162) + s_174)) rfl rfl ?_))
        have hb := Bd.ade hb ea_176 eb_177
        cases hf
        exact rb_aret C rfl (Or.inl ⟨_, rfl⟩) (Or.inr ⟨_, rfl⟩) hb.e.2.1 hb.e.2.2 dX1_fullText_102 ⟨rfl, rfl, hb.e.1⟩
    · have hf := (if_neg c_3).symm.trans hf
      refine rb_aload_n C dX1_fullText_7 rfl 0 rfl ?_
      obtain ⟨u_180, e_181, hf⟩ := rb_bd hf
      refine rb_hca C q1675 okp_RainbowOperators_Cloud e_181 dX1_fullText_8 ?_
      refine rb_astore_n (lv' := [(1, .ref x0), (0, .ref x0)]) C dX1_fullText_11 rfl (by decide) rfl ?_
      obtain ⟨a_184, b_185, hf, ea_182, eb_183⟩ := ad_at hf
      refine rb_hnew C ck_J1 q225 q132 q72 [.null, .int 0, .int 0, .int 0] rfl (Bd.c1 hb ea_182) (Bd.s1 hb eb_183) dX1_fullText_12 ?_
      have hb := Bd.ade hb ea_182 eb_183
      obtain ⟨h_186, e_h_186⟩ : ∃ z, z = (va_up h n (some (.inr (13, [.null, .int 0, .int 0, .int 0])))) := ⟨_, rfl⟩
      rw [← e_h_186]
      have hf := rb_let hf e_h_186
      refine rb_dup C dX1_fullText_15 rfl ?_
      obtain ⟨⟨r_188, h_189, k_190, s_191⟩, e_192, hf⟩ := rb_bd hf
      obtain ⟨a_195, b_196, hf, ea_193, eb_194⟩ := ad_at hf
      refine rb_callI (As := []) (rest := [.ref n]) C mi_J1_init si_X1_65 (ct_J1_init Ev h_186 (n + 1) n r_188 _ _ _ e_192) rfl rfl (Nat.le_of_ble_eq_true rfl) ⟨by show 2 + 1 ≤ 12 + 2 * (d + 1); omega, by show 8 + (1 + 11) + 61 ≤ 400 + 80 * (d + 1); omega, Bd.c1 hb ea_193, Bd.s1 hb eb_194⟩ dX1_fullText_16 rb_xX (rb_kX (rb_w (kc := ((0 + 1) + k_190)) (ks := ((0 + 4) + s_191)) rfl rfl ?_))
      have hb := Bd.ade hb ea_193 eb_194
      refine rb_ldcS C q1714 dX1_fullText_19 ?_
      obtain ⟨u_197, e_198, hf⟩ := rb_bd hf
      obtain ⟨⟨r_200, h_201, k_202, s_203⟩, e_204, hf⟩ := rb_bd hf
      obtain ⟨a_207, b_208, hf, ea_205, eb_206⟩ := ad_at hf
      refine rb_callV (As := [.ref (eS Ev RX1 66)]) (rest := []) C mi_J1_append_3 sv_X1_68 (hp_k_isC C.pf e_198 ck_J1) (ct_J1_append_3 Ev h_189 ((n + 1) + k_190) n (eS Ev RX1 66) r_200 _ _ _ e_204) rfl rfl (Nat.le_of_ble_eq_true rfl) ⟨by show 9 + 1 ≤ 12 + 2 * (d + 1); omega, by show 8 + (2 + 11) + 202 ≤ 400 + 80 * (d + 1); omega, Bd.c1 hb ea_205, Bd.s1 hb eb_206⟩ dX1_fullText_21 rb_xX (rb_kX (rb_w (kc := (((0 + 1) + k_190) + k_202)) (ks := (((0 + 4) + s_191) + s_203)) rfl rfl ?_))
      have hb := Bd.ade hb ea_205 eb_206
      refine rb_aload_n C dX1_fullText_24 rfl 0 rfl ?_
      obtain ⟨v_209, e_210, hf⟩ := rb_bd hf
      refine rb_hP C fl_X1_41_X8 e_210 dX1_fullText_25 ?_
      obtain ⟨⟨r_212, h_213, k_214, s_215⟩, e_216, hf⟩ := rb_bd hf
      obtain ⟨a_219, b_220, hf, ea_217, eb_218⟩ := ad_at hf
      refine rb_callS (As := [.ref v_209]) (rest := [.ref r_200]) C mi_X1_fullText ss_X1_72 (ih h_201 (((n + 1) + k_190) + k_202) v_209 r_212 _ _ _ e_216) rfl rfl (Nat.le_of_ble_eq_true rfl) ⟨by show (12 + 2 * d) + 1 ≤ 12 + 2 * (d + 1); omega, by show 8 + (2 + 11) + (400 + 80 * d) ≤ 400 + 80 * (d + 1); omega, Bd.c1 hb ea_217, Bd.s1 hb eb_218⟩ dX1_fullText_28 rb_xX (rb_kX (rb_w (kc := ((((0 + 1) + k_190) + k_202) + k_214)) (ks := ((((0 + 4) + s_191) + s_203) + s_215)) rfl rfl ?_))
      have hb := Bd.ade hb ea_217 eb_218
      obtain ⟨u_221, e_222, hf⟩ := rb_bd hf
      obtain ⟨⟨r_224, h_225, k_226, s_227⟩, e_228, hf⟩ := rb_bd hf
      obtain ⟨a_231, b_232, hf, ea_229, eb_230⟩ := ad_at hf
      refine rb_callV (As := [.ref r_212]) (rest := []) C mi_J1_append_3 sv_X1_68 (hp_k_isC C.pf e_222 ck_J1) (ct_J1_append_3 Ev h_213 ((((n + 1) + k_190) + k_202) + k_214) r_200 r_212 r_224 _ _ _ e_228) rfl rfl (Nat.le_of_ble_eq_true rfl) ⟨by show 9 + 1 ≤ 12 + 2 * (d + 1); omega, by show 8 + (2 + 11) + 202 ≤ 400 + 80 * (d + 1); omega, Bd.c1 hb ea_229, Bd.s1 hb eb_230⟩ dX1_fullText_31 rb_xX (rb_kX (rb_w (kc := (((((0 + 1) + k_190) + k_202) + k_214) + k_226)) (ks := (((((0 + 4) + s_191) + s_203) + s_215) + s_227)) rfl rfl ?_))
      have hb := Bd.ade hb ea_229 eb_230
      refine rb_ldcS C q1715 dX1_fullText_34 ?_
      obtain ⟨u_233, e_234, hf⟩ := rb_bd hf
      obtain ⟨⟨r_236, h_237, k_238, s_239⟩, e_240, hf⟩ := rb_bd hf
      obtain ⟨a_243, b_244, hf, ea_241, eb_242⟩ := ad_at hf
      refine rb_callV (As := [.ref (eS Ev RX1 76)]) (rest := []) C mi_J1_append_3 sv_X1_68 (hp_k_isC C.pf e_234 ck_J1) (ct_J1_append_3 Ev h_225 (((((n + 1) + k_190) + k_202) + k_214) + k_226) r_224 (eS Ev RX1 76) r_236 _ _ _ e_240) rfl rfl (Nat.le_of_ble_eq_true rfl) ⟨by show 9 + 1 ≤ 12 + 2 * (d + 1); omega, by show 8 + (2 + 11) + 202 ≤ 400 + 80 * (d + 1); omega, Bd.c1 hb ea_241, Bd.s1 hb eb_242⟩ dX1_fullText_36 rb_xX (rb_kX (rb_w (kc := ((((((0 + 1) + k_190) + k_202) + k_214) + k_226) + k_238)) (ks := ((((((0 + 4) + s_191) + s_203) + s_215) + s_227) + s_239)) rfl rfl ?_))
      have hb := Bd.ade hb ea_241 eb_242
      obtain ⟨u_245, e_246, hf⟩ := rb_bd hf
      obtain ⟨⟨r_248, h_249, k_250, s_251⟩, e_252, hf⟩ := rb_bd hf
      obtain ⟨a_255, b_256, hf, ea_253, eb_254⟩ := ad_at hf
      refine rb_callV (As := []) (rest := []) C mi_J1_toString sv_X1_78 (hp_k_isC C.pf e_246 ck_J1) (ct_J1_toString Ev h_237 ((((((n + 1) + k_190) + k_202) + k_214) + k_226) + k_238) r_236 r_248 _ _ _ e_252) rfl rfl (Nat.le_of_ble_eq_true rfl) ⟨by show 7 + 1 ≤ 12 + 2 * (d + 1); omega, by show 8 + (1 + 11) + 176 ≤ 400 + 80 * (d + 1); omega, Bd.c1 hb ea_253, Bd.s1 hb eb_254⟩ dX1_fullText_39 rb_xX (rb_kX (rb_w (kc := (((((((0 + 1) + k_190) + k_202) + k_214) + k_226) + k_238) + k_250)) (ks := (((((((0 + 4) + s_191) + s_203) + s_215) + s_227) + s_239) + s_251)) rfl rfl ?_))
      have hb := Bd.ade hb ea_253 eb_254
      cases hf
      exact rb_aret C rfl (Or.inl ⟨_, rfl⟩) (Or.inr ⟨_, rfl⟩) hb.e.2.1 hb.e.2.2 dX1_fullText_42 ⟨rfl, rfl, hb.e.1⟩
def f_X1_closing_j42_9 (Ev : rb_E) (y2_l4_1 : Int32) (y3_l4_1 : Int32) (rec_l4_1 : Int32 → Int32 → Option Int32) (w0_j42_9 : Int32) : Option Int32 := (rec_l4_1 (y2_l4_1 + w0_j42_9) (y3_l4_1 + 1))
def f_X1_closing_l4_1 (Ev : rb_E) (x0 : Nat) (h : AH) : Nat → Int32 → Int32 → Option Int32
  | 0, _, _ => none
  | k_l4_1 + 1, y2_l4_1, y3_l4_1 => (if y2_l4_1 ≤ 0 then (some y3_l4_1) else ((hp_k Ev h x0 14).bind fun u_3 => ((f_J2_charAt Ev h x0 (y3_l4_1 + 1)).bind fun v_6 => (if v_6 = 40 then (f_X1_closing_j42_9 Ev y2_l4_1 y3_l4_1 (f_X1_closing_l4_1 Ev x0 h k_l4_1) 1) else (if v_6 = 41 then (f_X1_closing_j42_9 Ev y2_l4_1 y3_l4_1 (f_X1_closing_l4_1 Ev x0 h k_l4_1) (-1)) else (f_X1_closing_j42_9 Ev y2_l4_1 y3_l4_1 (f_X1_closing_l4_1 Ev x0 h k_l4_1) 0))))))
def f_X1_closing (Ev : rb_E) (h : AH) (x0 : Nat) (x1 : Int32) : Option Int32 := (f_X1_closing_l4_1 Ev x0 h 4096 1 x1)
abbrev rm_X1_closing : Room := { frames := 5, cells := 0, slots := 0, locals := 106 }
set_option maxHeartbeats 4000000 in
theorem ct_X1_closing (Ev : rb_E) (h : AH) (n : Nat) (x0 : Nat) (x1 : Int32) (r : Int32) (hf : f_X1_closing Ev h x0 x1 = some r) : Ct Ev yX1_closing (ws_ yX1_closing cX1_closing 5 (some .int)) (rm_X1_closing) [.ref x0, .int x1] h n (pXi .int r h n) := by
  rw [f_X1_closing] at hf
  refine Ct.of rfl (Nat.le_of_ble_eq_true rfl) fun X C hnm => ?_
  have C : Cx Ev X RX1 cX1_closing 5 (some .int) [] := C
  show Wa Ev X (rm_X1_closing) 5 h n 0 0 (rb_MQ Ev X (rm_X1_closing) (pXi .int r h n)) 0 [(0, .ref x0), (1, .int x1)] []
  refine rb_iconst (v := 1) C dX1_closing_0 rfl ?_
  refine rb_istore_n (lv' := [(2, .int 1), (0, .ref x0), (1, .int x1)]) C dX1_closing_1 rfl (by decide) rfl ?_
  refine rb_iload_n C dX1_closing_2 rfl 2 rfl ?_
  refine rb_istore_n (lv' := [(3, .int x1), (2, .int 1), (0, .ref x0), (1, .int x1)]) C dX1_closing_3 rfl (by decide) rfl ?_
  have L_l4_1 : ∀ (k_l4_1 : Nat) (y2_l4_1 : Int32) (y3_l4_1 : Int32), f_X1_closing_l4_1 Ev x0 h k_l4_1 y2_l4_1 y3_l4_1 = some r → Wa Ev X (rm_X1_closing) 5 h n 0 0 (rb_MQ Ev X (rm_X1_closing) (pXi .int r h n)) 4 [(0, .ref x0), (1, .int x1), (2, .int y2_l4_1), (3, .int y3_l4_1)] [] := by
    intro k_l4_1
    induction k_l4_1 with
    | zero => intro y2_l4_1 y3_l4_1 hf; cases hf
    | succ k_l4_1 ih_l4_1 =>
      intro y2_l4_1 y3_l4_1 hf
      rw [f_X1_closing_l4_1] at hf
      refine rb_iload_n C dX1_closing_4 rfl 2 rfl ?_
      refine rb_if_le (tgt := 47) C dX1_closing_5 (by decide) (fun c_2 => ?_) (fun c_2 => ?_)
      · have hf := (if_pos c_2).symm.trans hf
        refine rb_iload_n C dX1_closing_47 rfl 3 rfl ?_
        cases hf
        exact rb_iret C rfl rfl (Nat.zero_le _) (Nat.zero_le _) dX1_closing_48 ⟨rfl, rfl, rfl, rfl⟩
      · have hf := (if_neg c_2).symm.trans hf
        refine rb_iinc (v := (y3_l4_1 + 1)) (lv' := [(3, .int (y3_l4_1 + 1)), (0, .ref x0), (1, .int x1), (2, .int y2_l4_1)]) C dX1_closing_8 (k := 3) rfl rfl (by decide) rfl ?_
        refine rb_aload_n C dX1_closing_11 rfl 1 rfl ?_
        refine rb_iload_n C dX1_closing_12 rfl 0 rfl ?_
        obtain ⟨u_3, e_4, hf⟩ := rb_bd hf
        obtain ⟨v_6, e_7, hf⟩ := rb_bd hf
        refine rb_callV (As := [.int (y3_l4_1 + 1)]) (rest := []) C mi_J2_charAt sv_X1_233 (hp_k_isC C.pf e_4 ck_J2) (ct_J2_charAt Ev h n x0 (y3_l4_1 + 1) _ e_7) rfl rfl (Nat.le_of_ble_eq_true rfl) ⟨Nat.le_of_ble_eq_true rfl, Nat.le_of_ble_eq_true rfl, (Nat.zero_le _), (Nat.zero_le _)⟩ dX1_closing_13 rb_xXi (rb_kXi fun hn_5 => (rb_w (kc := 0) (ks := 0) rfl rfl ?_))
        refine rb_istore (lv' := [(4, .int v_6), (3, .int (y3_l4_1 + 1)), (0, .ref x0), (1, .int x1), (2, .int y2_l4_1)]) C dX1_closing_16 (by decide) rfl ?_
        refine rb_iload_n C dX1_closing_18 rfl 4 rfl ?_
        refine rb_iload C dX1_closing_19 0 rfl ?_
        refine rb_bipush (v := 40) C dX1_closing_21 rfl ?_
        have J_j42_9 : ∀ (w0_j42_9 : Int32), f_X1_closing_j42_9 Ev y2_l4_1 y3_l4_1 (f_X1_closing_l4_1 Ev x0 h k_l4_1) w0_j42_9 = some r → Wa Ev X (rm_X1_closing) 5 h n 0 0 (rb_MQ Ev X (rm_X1_closing) (pXi .int r h n)) 42 [(0, .ref x0), (1, .int x1), (2, .int y2_l4_1), (3, .int (y3_l4_1 + 1)), (4, .int v_6)] [.int w0_j42_9, .int y2_l4_1] := by
          intro w0_j42_9 hf
          rw [f_X1_closing_j42_9] at hf
          refine rb_iadd C dX1_closing_42 ?_
          refine rb_istore_n (lv' := [(2, .int (y2_l4_1 + w0_j42_9)), (0, .ref x0), (1, .int x1), (3, .int (y3_l4_1 + 1)), (4, .int v_6)]) C dX1_closing_43 rfl (by decide) rfl ?_
          refine rb_goto (tgt := 4) C dX1_closing_44 (by decide) ?_
          refine rb_sub [1, 2, 0, 3] rfl ?_
          exact ih_l4_1 (y2_l4_1 + w0_j42_9) (y3_l4_1 + 1) hf
        refine rb_icmp_ne (tgt := 30) C dX1_closing_23 (by decide) (fun c_8 => ?_) (fun c_8 => ?_)
        · have hf := (if_neg c_8).symm.trans hf
          refine rb_iload C dX1_closing_30 0 rfl ?_
          refine rb_bipush (v := 41) C dX1_closing_32 rfl ?_
          refine rb_icmp_ne (tgt := 41) C dX1_closing_34 (by decide) (fun c_10 => ?_) (fun c_10 => ?_)
          · have hf := (if_neg c_10).symm.trans hf
            refine rb_iconst (v := 0) C dX1_closing_41 rfl ?_
            refine rb_sub [2, 3, 4, 1, 0] rfl ?_
            exact J_j42_9 0 hf
          · have hf := (if_pos c_10).symm.trans hf
            refine rb_iconst (v := (-1)) C dX1_closing_37 rfl ?_
            refine rb_goto (tgt := 42) C dX1_closing_38 (by decide) ?_
            refine rb_sub [2, 3, 4, 1, 0] rfl ?_
            exact J_j42_9 (-1) hf
        · have hf := (if_pos c_8).symm.trans hf
          refine rb_iconst (v := 1) C dX1_closing_26 rfl ?_
          refine rb_goto (tgt := 42) C dX1_closing_27 (by decide) ?_
          refine rb_sub [2, 3, 4, 1, 0] rfl ?_
          exact J_j42_9 1 hf
  refine rb_sub [2, 3, 1, 0] rfl ?_
  exact L_l4_1 4096 1 x1 hf
def f_J2_init_3 (Ev : rb_E) (h : AH) (n : Nat) (o : Nat) (x1 : Nat) (x2 : Int32) : Option (Unit × AH × Nat × Nat) := ((hp_put h o 14 0 (.ref x1)).bind fun h_1 => (if narrow .byte (.int x2) = .int x2 ∧ fits .byte (.int x2) = true then ((hp_put h_1 o 14 1 (.int x2)).bind fun h_4 => (some ((), h_4, 0, 0))) else none))
abbrev rm_J2_init_3 (k s : Nat) : Room := { frames := 1, cells := k, slots := s, locals := 40 }
set_option maxHeartbeats 4000000 in
theorem ct_J2_init_3 (Ev : rb_E) (h : AH) (n : Nat) (o : Nat) (x1 : Nat) (x2 : Int32) (r : Unit) (h' : AH) (k s : Nat) (hf : f_J2_init_3 Ev h n o x1 x2 = some (r, h', k, s)) : Ct Ev yJ2_init_3 (ws_ yJ2_init_3 cJ2_init_3 3 none) (rm_J2_init_3 k s) [.ref o, .ref x1, .int x2] h n (pX (.inl (none)) h' (n + k)) := by
  rw [f_J2_init_3] at hf
  refine Ct.of rfl (Nat.le_of_ble_eq_true rfl) fun X C hnm => ?_
  have C : Cx Ev X RJ2 cJ2_init_3 3 none [] := C
  show Wa Ev X (rm_J2_init_3 k s) 3 h n 0 0 (rb_MQ Ev X (rm_J2_init_3 k s) (pX (.inl (none)) h' (n + k))) 0 [(0, .ref o), (1, .ref x1), (2, .int x2)] []
  have hb : Bd (n + k) k s n 0 0 k s := ⟨rfl, Nat.le_of_eq (Nat.zero_add _), Nat.le_of_eq (Nat.zero_add _)⟩
  refine rb_aload_n C dJ2_init_3_0 rfl 0 rfl ?_
  refine rb_objInit C q679 q123 q124 dJ2_init_3_1 (Nat.le_of_ble_eq_true rfl) (Nat.le_of_ble_eq_true rfl) ?_
  refine rb_aload_n C dJ2_init_3_4 rfl 0 rfl ?_
  refine rb_aload_n C dJ2_init_3_5 rfl 1 rfl ?_
  obtain ⟨h_1, e_2, hf⟩ := rb_bd hf
  refine rb_hputF C ff_J2_9_J2 hnm e_2 rfl rfl dJ2_init_3_6 ?_
  refine rb_aload_n C dJ2_init_3_9 rfl 0 rfl ?_
  refine rb_iload_n C dJ2_init_3_10 rfl 2 rfl ?_
  by_cases c_g_3 : narrow .byte (.int x2) = .int x2 ∧ fits .byte (.int x2) = true
  rotate_left
  · exact absurd ((if_neg c_g_3).symm.trans hf) (fun z => by cases z)
  have hf := (if_pos c_g_3).symm.trans hf
  obtain ⟨h_4, e_5, hf⟩ := rb_bd hf
  refine rb_hputF C ff_J2_15_J2 hnm e_5 c_g_3.1 c_g_3.2 dJ2_init_3_11 ?_
  cases hf
  exact rb_vret C rfl hb.e.2.1 hb.e.2.2 dJ2_init_3_14 ⟨rfl, rfl, hb.e.1⟩
def f_J3_newString (Ev : rb_E) (h : AH) (n : Nat) (x0 : Nat) (x1 : Int32) (x2 : Int32) : Option (Nat × AH × Nat × Nat) := (if x2 = 0 then none else ((f_J3_compress Ev h n x0 x1 x2).bind fun (r_3, h_4, k_5, s_6) => (ad k_5 s_6 ((f_J3_coderFromArrayLen Ev h_4 r_3 x2).bind fun v_13 => (ad 1 4 (rb_lt (va_up h_4 (n + k_5) (some (.inr (14, [.null, .int 0, .int 0, .int 0])))) fun h_19 => ((f_J2_init_3 Ev h_19 ((n + k_5) + 1) (n + k_5) r_3 v_13).bind fun (r_21, h_22, k_23, s_24) => (ad k_23 s_24 (some ((n + k_5), h_22, 0, 0))))))))))
abbrev rm_J3_newString (k s : Nat) : Room := { frames := 5, cells := k, slots := s, locals := 131 }
set_option maxHeartbeats 4000000 in
theorem ct_J3_newString (Ev : rb_E) (h : AH) (n : Nat) (x0 : Nat) (x1 : Int32) (x2 : Int32) (r : Nat) (h' : AH) (k s : Nat) (hf : f_J3_newString Ev h n x0 x1 x2 = some (r, h', k, s)) : Ct Ev yJ3_newString (ws_ yJ3_newString cJ3_newString 5 (some (.object "java/lang/String"))) (rm_J3_newString k s) [.ref x0, .int x1, .int x2] h n (pX (.inl (some (.ref r))) h' (n + k)) := by
  rw [f_J3_newString] at hf
  refine Ct.of rfl (Nat.le_of_ble_eq_true rfl) fun X C hnm => ?_
  have C : Cx Ev X RJ3 cJ3_newString 5 (some (.object "java/lang/String")) [] := C
  show Wa Ev X (rm_J3_newString k s) 5 h n 0 0 (rb_MQ Ev X (rm_J3_newString k s) (pX (.inl (some (.ref r))) h' (n + k))) 0 [(0, .ref x0), (1, .int x1), (2, .int x2)] []
  have hb : Bd (n + k) k s n 0 0 k s := ⟨rfl, Nat.le_of_eq (Nat.zero_add _), Nat.le_of_eq (Nat.zero_add _)⟩
  refine rb_iload_n C dJ3_newString_0 rfl 2 rfl ?_
  refine rb_if_ne (tgt := 8) C dJ3_newString_1 (by decide) (fun c_1 => ?_) (fun c_1 => ?_)
  · have hf := (if_neg c_1).symm.trans hf
    refine rb_gets (v := .int 1) C q1741 q141 (C.pf.2.2.1.1) dJ3_newString_8 ?_
    refine rb_if_eq (tgt := 39) C dJ3_newString_11 (by decide) (fun c => absurd c (by decide)) (fun _ => ?_)
    refine rb_aload_n C dJ3_newString_14 rfl 0 rfl ?_
    refine rb_iload_n C dJ3_newString_15 rfl 1 rfl ?_
    refine rb_iload_n C dJ3_newString_16 rfl 2 rfl ?_
    obtain ⟨⟨r_3, h_4, k_5, s_6⟩, e_7, hf⟩ := rb_bd hf
    obtain ⟨a_10, b_11, hf, ea_8, eb_9⟩ := ad_at hf
    refine rb_callS (As := [.ref x0, .int x1, .int x2]) (rest := []) C mi_J3_compress ss_J3_257 (ct_J3_compress Ev h n x0 x1 x2 r_3 _ _ _ e_7) rfl rfl (Nat.le_of_ble_eq_true rfl) ⟨Nat.le_of_ble_eq_true rfl, Nat.le_of_ble_eq_true rfl, Bd.c1 hb ea_8, Bd.s1 hb eb_9⟩ dJ3_newString_17 rb_xX (rb_kX (rb_w (kc := (0 + k_5)) (ks := (0 + s_6)) rfl rfl ?_))
    have hb := Bd.ade hb ea_8 eb_9
    refine rb_astore_n (lv' := [(3, .ref r_3), (0, .ref x0), (1, .int x1), (2, .int x2)]) C dJ3_newString_20 rfl (by decide) rfl ?_
    refine rb_aload_n C dJ3_newString_21 rfl 0 rfl ?_
    refine rb_iload_n C dJ3_newString_22 rfl 3 rfl ?_
    obtain ⟨v_13, e_14, hf⟩ := rb_bd hf
    refine rb_callS (As := [.ref r_3, .int x2]) (rest := []) C mi_J3_coderFromArrayLen ss_J3_259 (ct_J3_coderFromArrayLen Ev h_4 (n + k_5) r_3 x2 _ e_14) rfl rfl (Nat.le_of_ble_eq_true rfl) ⟨Nat.le_of_ble_eq_true rfl, Nat.le_of_ble_eq_true rfl, hb.c0, hb.s0⟩ dJ3_newString_23 rb_xXi (rb_kXi fun hn_12 => (rb_w (kc := (0 + k_5)) (ks := (0 + s_6)) rfl rfl ?_))
    refine rb_istore (lv' := [(4, .int v_13), (3, .ref r_3), (0, .ref x0), (1, .int x1), (2, .int x2)]) C dJ3_newString_26 (by decide) rfl ?_
    obtain ⟨a_17, b_18, hf, ea_15, eb_16⟩ := ad_at hf
    refine rb_hnew C ck_J2 q1744 q672 q73 [.null, .int 0, .int 0, .int 0] rfl (Bd.c1 hb ea_15) (Bd.s1 hb eb_16) dJ3_newString_28 ?_
    have hb := Bd.ade hb ea_15 eb_16
    obtain ⟨h_19, e_h_19⟩ : ∃ z, z = (va_up h_4 (n + k_5) (some (.inr (14, [.null, .int 0, .int 0, .int 0])))) := ⟨_, rfl⟩
    rw [← e_h_19]
    have hf := rb_let hf e_h_19
    refine rb_dup C dJ3_newString_31 rfl ?_
    refine rb_aload_n C dJ3_newString_32 rfl 1 rfl ?_
    refine rb_iload C dJ3_newString_33 0 rfl ?_
    obtain ⟨⟨r_21, h_22, k_23, s_24⟩, e_25, hf⟩ := rb_bd hf
    obtain ⟨a_28, b_29, hf, ea_26, eb_27⟩ := ad_at hf
    refine rb_callI (As := [.ref r_3, .int v_13]) (rest := [.ref (n + k_5)]) C mi_J2_init_3 si_J3_263 (ct_J2_init_3 Ev h_19 ((n + k_5) + 1) (n + k_5) r_3 v_13 r_21 _ _ _ e_25) rfl rfl (Nat.le_of_ble_eq_true rfl) ⟨Nat.le_of_ble_eq_true rfl, Nat.le_of_ble_eq_true rfl, Bd.c1 hb ea_26, Bd.s1 hb eb_27⟩ dJ3_newString_35 rb_xX (rb_kX (rb_w (kc := (((0 + k_5) + 1) + k_23)) (ks := (((0 + s_6) + 4) + s_24)) rfl rfl ?_))
    have hb := Bd.ade hb ea_26 eb_27
    cases hf
    exact rb_aret C rfl (Or.inl ⟨_, rfl⟩) (Or.inr ⟨_, rfl⟩) hb.e.2.1 hb.e.2.2 dJ3_newString_38 ⟨rfl, rfl, hb.e.1⟩
  · have hf := (if_pos c_1).symm.trans hf
    cases hf
def f_J11_newString (Ev : rb_E) (h : AH) (n : Nat) (x0 : Nat) (x1 : Int32) (x2 : Int32) : Option (Nat × AH × Nat × Nat) := (if x2 = 0 then (some ((eS Ev RJ11 151), h, 0, 0)) else (ad 1 4 (rb_lt (va_up h n (some (.inr (14, [.null, .int 0, .int 0, .int 0])))) fun h_6 => ((f_J9_copyOfRange Ev h_6 (n + 1) x0 x1 (x1 + x2)).bind fun (r_8, h_9, k_10, s_11) => (ad k_10 s_11 ((f_J2_init_3 Ev h_9 ((n + 1) + k_10) n r_8 0).bind fun (r_18, h_19, k_20, s_21) => (ad k_20 s_21 (some (n, h_19, 0, 0)))))))))
abbrev rm_J11_newString (k s : Nat) : Room := { frames := 3, cells := k, slots := s, locals := 106 }
set_option maxHeartbeats 4000000 in
theorem ct_J11_newString (Ev : rb_E) (h : AH) (n : Nat) (x0 : Nat) (x1 : Int32) (x2 : Int32) (r : Nat) (h' : AH) (k s : Nat) (hf : f_J11_newString Ev h n x0 x1 x2 = some (r, h', k, s)) : Ct Ev yJ11_newString (ws_ yJ11_newString cJ11_newString 3 (some (.object "java/lang/String"))) (rm_J11_newString k s) [.ref x0, .int x1, .int x2] h n (pX (.inl (some (.ref r))) h' (n + k)) := by
  rw [f_J11_newString] at hf
  refine Ct.of rfl (Nat.le_of_ble_eq_true rfl) fun X C hnm => ?_
  have C : Cx Ev X RJ11 cJ11_newString 3 (some (.object "java/lang/String")) [] := C
  show Wa Ev X (rm_J11_newString k s) 3 h n 0 0 (rb_MQ Ev X (rm_J11_newString k s) (pX (.inl (some (.ref r))) h' (n + k))) 0 [(0, .ref x0), (1, .int x1), (2, .int x2)] []
  have hb : Bd (n + k) k s n 0 0 k s := ⟨rfl, Nat.le_of_eq (Nat.zero_add _), Nat.le_of_eq (Nat.zero_add _)⟩
  refine rb_iload_n C dJ11_newString_0 rfl 2 rfl ?_
  refine rb_if_ne (tgt := 7) C dJ11_newString_1 (by decide) (fun c_1 => ?_) (fun c_1 => ?_)
  · have hf := (if_neg c_1).symm.trans hf
    obtain ⟨a_4, b_5, hf, ea_2, eb_3⟩ := ad_at hf
    refine rb_hnew C ck_J2 q1732 q672 q73 [.null, .int 0, .int 0, .int 0] rfl (Bd.c1 hb ea_2) (Bd.s1 hb eb_3) dJ11_newString_7 ?_
    have hb := Bd.ade hb ea_2 eb_3
    obtain ⟨h_6, e_h_6⟩ : ∃ z, z = (va_up h n (some (.inr (14, [.null, .int 0, .int 0, .int 0])))) := ⟨_, rfl⟩
    rw [← e_h_6]
    have hf := rb_let hf e_h_6
    refine rb_dup C dJ11_newString_10 rfl ?_
    refine rb_aload_n C dJ11_newString_11 rfl 0 rfl ?_
    refine rb_iload_n C dJ11_newString_12 rfl 1 rfl ?_
    refine rb_iload_n C dJ11_newString_13 rfl 1 rfl ?_
    refine rb_iload_n C dJ11_newString_14 rfl 2 rfl ?_
    refine rb_iadd C dJ11_newString_15 ?_
    obtain ⟨⟨r_8, h_9, k_10, s_11⟩, e_12, hf⟩ := rb_bd hf
    obtain ⟨a_15, b_16, hf, ea_13, eb_14⟩ := ad_at hf
    refine rb_callS (As := [.ref x0, .int x1, .int (x1 + x2)]) (rest := [.ref n, .ref n]) C mi_J9_copyOfRange ss_J11_232 (ct_J9_copyOfRange Ev h_6 (n + 1) x0 x1 (x1 + x2) r_8 _ _ _ e_12) rfl rfl (Nat.le_of_ble_eq_true rfl) ⟨Nat.le_of_ble_eq_true rfl, Nat.le_of_ble_eq_true rfl, Bd.c1 hb ea_13, Bd.s1 hb eb_14⟩ dJ11_newString_16 rb_xX (rb_kX (rb_w (kc := ((0 + 1) + k_10)) (ks := ((0 + 4) + s_11)) rfl rfl ?_))
    have hb := Bd.ade hb ea_13 eb_14
    refine rb_iconst (v := 0) C dJ11_newString_19 rfl ?_
    obtain ⟨⟨r_18, h_19, k_20, s_21⟩, e_22, hf⟩ := rb_bd hf
    obtain ⟨a_25, b_26, hf, ea_23, eb_24⟩ := ad_at hf
    refine rb_callI (As := [.ref r_8, .int 0]) (rest := [.ref n]) C mi_J2_init_3 si_J11_112 (ct_J2_init_3 Ev h_9 ((n + 1) + k_10) n r_8 0 r_18 _ _ _ e_22) rfl rfl (Nat.le_of_ble_eq_true rfl) ⟨Nat.le_of_ble_eq_true rfl, Nat.le_of_ble_eq_true rfl, Bd.c1 hb ea_23, Bd.s1 hb eb_24⟩ dJ11_newString_20 rb_xX (rb_kX (rb_w (kc := (((0 + 1) + k_10) + k_20)) (ks := (((0 + 4) + s_11) + s_21)) rfl rfl ?_))
    have hb := Bd.ade hb ea_23 eb_24
    cases hf
    exact rb_aret C rfl (Or.inl ⟨_, rfl⟩) (Or.inr ⟨_, rfl⟩) hb.e.2.1 hb.e.2.2 dJ11_newString_23 ⟨rfl, rfl, hb.e.1⟩
  · have hf := (if_pos c_1).symm.trans hf
    refine rb_ldcS C q1731 dJ11_newString_4 ?_
    cases hf
    exact rb_aret C rfl (Or.inl ⟨_, rfl⟩) (Or.inr ⟨_, rfl⟩) hb.e.2.1 hb.e.2.2 dJ11_newString_6 ⟨rfl, rfl, hb.e.1⟩
def f_J2_substring (Ev : rb_E) (h : AH) (n : Nat) (o : Nat) (x1 : Int32) (x2 : Int32) : Option (Nat × AH × Nat × Nat) := ((hp_k Ev h o 14).bind fun u_1 => ((f_J2_length Ev h o).bind fun v_4 => ((f_J2_checkBoundsBeginEnd Ev h x1 x2 v_4).bind fun v_7 => (if x1 = 0 then (if x2 = v_4 then (some (o, h, 0, 0)) else ((hp_k Ev h o 14).bind fun u_41 => ((f_J2_isLatin1 Ev h o).bind fun v_44 => (if v_44 = 0 then ((hp_p Ev h o 14 0).bind fun v_47 => ((f_J3_newString Ev h n v_47 x1 (x2 - x1)).bind fun (r_50, h_51, k_52, s_53) => (ad k_52 s_53 (some (r_50, h_51, 0, 0))))) else ((hp_p Ev h o 14 0).bind fun v_59 => ((f_J11_newString Ev h n v_59 x1 (x2 - x1)).bind fun (r_62, h_63, k_64, s_65) => (ad k_64 s_65 (some (r_62, h_63, 0, 0))))))))) else ((hp_k Ev h o 14).bind fun u_10 => ((f_J2_isLatin1 Ev h o).bind fun v_13 => (if v_13 = 0 then ((hp_p Ev h o 14 0).bind fun v_16 => ((f_J3_newString Ev h n v_16 x1 (x2 - x1)).bind fun (r_19, h_20, k_21, s_22) => (ad k_21 s_22 (some (r_19, h_20, 0, 0))))) else ((hp_p Ev h o 14 0).bind fun v_28 => ((f_J11_newString Ev h n v_28 x1 (x2 - x1)).bind fun (r_31, h_32, k_33, s_34) => (ad k_33 s_34 (some (r_31, h_32, 0, 0))))))))))))
abbrev rm_J2_substring (k s : Nat) : Room := { frames := 6, cells := k, slots := s, locals := 155 }
set_option maxHeartbeats 4000000 in
theorem ct_J2_substring (Ev : rb_E) (h : AH) (n : Nat) (o : Nat) (x1 : Int32) (x2 : Int32) (r : Nat) (h' : AH) (k s : Nat) (hf : f_J2_substring Ev h n o x1 x2 = some (r, h', k, s)) : Ct Ev yJ2_substring (ws_ yJ2_substring cJ2_substring 5 (some (.object "java/lang/String"))) (rm_J2_substring k s) [.ref o, .int x1, .int x2] h n (pX (.inl (some (.ref r))) h' (n + k)) := by
  rw [f_J2_substring] at hf
  refine Ct.of rfl (Nat.le_of_ble_eq_true rfl) fun X C hnm => ?_
  have C : Cx Ev X RJ2 cJ2_substring 5 (some (.object "java/lang/String")) [] := C
  show Wa Ev X (rm_J2_substring k s) 5 h n 0 0 (rb_MQ Ev X (rm_J2_substring k s) (pX (.inl (some (.ref r))) h' (n + k))) 0 [(0, .ref o), (1, .int x1), (2, .int x2)] []
  have hb : Bd (n + k) k s n 0 0 k s := ⟨rfl, Nat.le_of_eq (Nat.zero_add _), Nat.le_of_eq (Nat.zero_add _)⟩
  refine rb_aload_n C dJ2_substring_0 rfl 0 rfl ?_
  obtain ⟨u_1, e_2, hf⟩ := rb_bd hf
  obtain ⟨v_4, e_5, hf⟩ := rb_bd hf
  refine rb_callV (As := []) (rest := []) C mi_J2_length sv_J2_505 (hp_k_isC C.pf e_2 ck_J2) (ct_J2_length Ev h n o _ e_5) rfl rfl (Nat.le_of_ble_eq_true rfl) ⟨Nat.le_of_ble_eq_true rfl, Nat.le_of_ble_eq_true rfl, hb.c0, hb.s0⟩ dJ2_substring_1 rb_xXi (rb_kXi fun hn_3 => (rb_w (kc := 0) (ks := 0) rfl rfl ?_))
  refine rb_istore_n (lv' := [(3, .int v_4), (0, .ref o), (1, .int x1), (2, .int x2)]) C dJ2_substring_4 rfl (by decide) rfl ?_
  refine rb_iload_n C dJ2_substring_5 rfl 2 rfl ?_
  refine rb_iload_n C dJ2_substring_6 rfl 3 rfl ?_
  refine rb_iload_n C dJ2_substring_7 rfl 0 rfl ?_
  obtain ⟨v_7, e_8, hf⟩ := rb_bd hf
  refine rb_callS (As := [.int x1, .int x2, .int v_4]) (rest := []) C mi_J2_checkBoundsBeginEnd ss_J2_521 (ct_J2_checkBoundsBeginEnd Ev h n x1 x2 v_4 _ e_8) rfl rfl (Nat.le_of_ble_eq_true rfl) ⟨Nat.le_of_ble_eq_true rfl, Nat.le_of_ble_eq_true rfl, hb.c0, hb.s0⟩ dJ2_substring_8 rb_xX (rb_kX (rb_w (kc := 0) (ks := 0) rfl rfl ?_))
  refine rb_iload_n C dJ2_substring_11 rfl 2 rfl ?_
  refine rb_if_ne (tgt := 22) C dJ2_substring_12 (by decide) (fun c_9 => ?_) (fun c_9 => ?_)
  · have hf := (if_neg c_9).symm.trans hf
    refine rb_iload_n C dJ2_substring_22 rfl 3 rfl ?_
    refine rb_iload_n C dJ2_substring_23 rfl 2 rfl ?_
    refine rb_isub C dJ2_substring_24 ?_
    refine rb_istore (lv' := [(4, .int (x2 - x1)), (3, .int v_4), (0, .ref o), (1, .int x1), (2, .int x2)]) C dJ2_substring_25 (by decide) rfl ?_
    refine rb_aload_n C dJ2_substring_27 rfl 2 rfl ?_
    obtain ⟨u_10, e_11, hf⟩ := rb_bd hf
    obtain ⟨v_13, e_14, hf⟩ := rb_bd hf
    refine rb_callV (As := []) (rest := []) C mi_J2_isLatin1 sv_J2_492 (hp_k_isC C.pf e_11 ck_J2) (ct_J2_isLatin1 Ev h n o _ e_14) rfl rfl (Nat.le_of_ble_eq_true rfl) ⟨Nat.le_of_ble_eq_true rfl, Nat.le_of_ble_eq_true rfl, hb.c0, hb.s0⟩ dJ2_substring_28 rb_xXi (rb_kXi fun hn_12 => (rb_w (kc := 0) (ks := 0) rfl rfl ?_))
    refine rb_if_eq (tgt := 47) C dJ2_substring_31 (by decide) (fun c_15 => ?_) (fun c_15 => ?_)
    · have hf := (if_pos c_15).symm.trans hf
      refine rb_aload_n C dJ2_substring_47 rfl 2 rfl ?_
      obtain ⟨v_16, e_17, hf⟩ := rb_bd hf
      refine rb_hP C fl_J2_9_J2 e_17 dJ2_substring_48 ?_
      refine rb_iload_n C dJ2_substring_51 rfl 3 rfl ?_
      refine rb_iload C dJ2_substring_52 0 rfl ?_
      obtain ⟨⟨r_19, h_20, k_21, s_22⟩, e_23, hf⟩ := rb_bd hf
      obtain ⟨a_26, b_27, hf, ea_24, eb_25⟩ := ad_at hf
      refine rb_callS (As := [.ref v_16, .int x1, .int (x2 - x1)]) (rest := []) C mi_J3_newString ss_J2_689 (ct_J3_newString Ev h n v_16 x1 (x2 - x1) r_19 _ _ _ e_23) rfl rfl (Nat.le_of_ble_eq_true rfl) ⟨Nat.le_of_ble_eq_true rfl, Nat.le_of_ble_eq_true rfl, Bd.c1 hb ea_24, Bd.s1 hb eb_25⟩ dJ2_substring_54 rb_xX (rb_kX (rb_w (kc := (0 + k_21)) (ks := (0 + s_22)) rfl rfl ?_))
      have hb := Bd.ade hb ea_24 eb_25
      cases hf
      exact rb_aret C rfl (Or.inl ⟨_, rfl⟩) (Or.inr ⟨_, rfl⟩) hb.e.2.1 hb.e.2.2 dJ2_substring_57 ⟨rfl, rfl, hb.e.1⟩
    · have hf := (if_neg c_15).symm.trans hf
      refine rb_aload_n C dJ2_substring_34 rfl 2 rfl ?_
      obtain ⟨v_28, e_29, hf⟩ := rb_bd hf
      refine rb_hP C fl_J2_9_J2 e_29 dJ2_substring_35 ?_
      refine rb_iload_n C dJ2_substring_38 rfl 3 rfl ?_
      refine rb_iload C dJ2_substring_39 0 rfl ?_
      obtain ⟨⟨r_31, h_32, k_33, s_34⟩, e_35, hf⟩ := rb_bd hf
      obtain ⟨a_38, b_39, hf, ea_36, eb_37⟩ := ad_at hf
      refine rb_callS (As := [.ref v_28, .int x1, .int (x2 - x1)]) (rest := []) C mi_J11_newString ss_J2_685 (ct_J11_newString Ev h n v_28 x1 (x2 - x1) r_31 _ _ _ e_35) rfl rfl (Nat.le_of_ble_eq_true rfl) ⟨Nat.le_of_ble_eq_true rfl, Nat.le_of_ble_eq_true rfl, Bd.c1 hb ea_36, Bd.s1 hb eb_37⟩ dJ2_substring_41 rb_xX (rb_kX (rb_w (kc := (0 + k_33)) (ks := (0 + s_34)) rfl rfl ?_))
      have hb := Bd.ade hb ea_36 eb_37
      refine rb_goto (tgt := 57) C dJ2_substring_44 (by decide) ?_
      cases hf
      exact rb_aret C rfl (Or.inl ⟨_, rfl⟩) (Or.inr ⟨_, rfl⟩) hb.e.2.1 hb.e.2.2 dJ2_substring_57 ⟨rfl, rfl, hb.e.1⟩
  · have hf := (if_pos c_9).symm.trans hf
    refine rb_iload_n C dJ2_substring_15 rfl 3 rfl ?_
    refine rb_iload_n C dJ2_substring_16 rfl 0 rfl ?_
    refine rb_icmp_ne (tgt := 22) C dJ2_substring_17 (by decide) (fun c_40 => ?_) (fun c_40 => ?_)
    · have hf := (if_neg c_40).symm.trans hf
      refine rb_iload_n C dJ2_substring_22 rfl 3 rfl ?_
      refine rb_iload_n C dJ2_substring_23 rfl 2 rfl ?_
      refine rb_isub C dJ2_substring_24 ?_
      refine rb_istore (lv' := [(4, .int (x2 - x1)), (3, .int v_4), (0, .ref o), (1, .int x1), (2, .int x2)]) C dJ2_substring_25 (by decide) rfl ?_
      refine rb_aload_n C dJ2_substring_27 rfl 2 rfl ?_
      obtain ⟨u_41, e_42, hf⟩ := rb_bd hf
      obtain ⟨v_44, e_45, hf⟩ := rb_bd hf
      refine rb_callV (As := []) (rest := []) C mi_J2_isLatin1 sv_J2_492 (hp_k_isC C.pf e_42 ck_J2) (ct_J2_isLatin1 Ev h n o _ e_45) rfl rfl (Nat.le_of_ble_eq_true rfl) ⟨Nat.le_of_ble_eq_true rfl, Nat.le_of_ble_eq_true rfl, hb.c0, hb.s0⟩ dJ2_substring_28 rb_xXi (rb_kXi fun hn_43 => (rb_w (kc := 0) (ks := 0) rfl rfl ?_))
      refine rb_if_eq (tgt := 47) C dJ2_substring_31 (by decide) (fun c_46 => ?_) (fun c_46 => ?_)
      · have hf := (if_pos c_46).symm.trans hf
        refine rb_aload_n C dJ2_substring_47 rfl 2 rfl ?_
        obtain ⟨v_47, e_48, hf⟩ := rb_bd hf
        refine rb_hP C fl_J2_9_J2 e_48 dJ2_substring_48 ?_
        refine rb_iload_n C dJ2_substring_51 rfl 3 rfl ?_
        refine rb_iload C dJ2_substring_52 0 rfl ?_
        obtain ⟨⟨r_50, h_51, k_52, s_53⟩, e_54, hf⟩ := rb_bd hf
        obtain ⟨a_57, b_58, hf, ea_55, eb_56⟩ := ad_at hf
        refine rb_callS (As := [.ref v_47, .int x1, .int (x2 - x1)]) (rest := []) C mi_J3_newString ss_J2_689 (ct_J3_newString Ev h n v_47 x1 (x2 - x1) r_50 _ _ _ e_54) rfl rfl (Nat.le_of_ble_eq_true rfl) ⟨Nat.le_of_ble_eq_true rfl, Nat.le_of_ble_eq_true rfl, Bd.c1 hb ea_55, Bd.s1 hb eb_56⟩ dJ2_substring_54 rb_xX (rb_kX (rb_w (kc := (0 + k_52)) (ks := (0 + s_53)) rfl rfl ?_))
        have hb := Bd.ade hb ea_55 eb_56
        cases hf
        exact rb_aret C rfl (Or.inl ⟨_, rfl⟩) (Or.inr ⟨_, rfl⟩) hb.e.2.1 hb.e.2.2 dJ2_substring_57 ⟨rfl, rfl, hb.e.1⟩
      · have hf := (if_neg c_46).symm.trans hf
        refine rb_aload_n C dJ2_substring_34 rfl 2 rfl ?_
        obtain ⟨v_59, e_60, hf⟩ := rb_bd hf
        refine rb_hP C fl_J2_9_J2 e_60 dJ2_substring_35 ?_
        refine rb_iload_n C dJ2_substring_38 rfl 3 rfl ?_
        refine rb_iload C dJ2_substring_39 0 rfl ?_
        obtain ⟨⟨r_62, h_63, k_64, s_65⟩, e_66, hf⟩ := rb_bd hf
        obtain ⟨a_69, b_70, hf, ea_67, eb_68⟩ := ad_at hf
        refine rb_callS (As := [.ref v_59, .int x1, .int (x2 - x1)]) (rest := []) C mi_J11_newString ss_J2_685 (ct_J11_newString Ev h n v_59 x1 (x2 - x1) r_62 _ _ _ e_66) rfl rfl (Nat.le_of_ble_eq_true rfl) ⟨Nat.le_of_ble_eq_true rfl, Nat.le_of_ble_eq_true rfl, Bd.c1 hb ea_67, Bd.s1 hb eb_68⟩ dJ2_substring_41 rb_xX (rb_kX (rb_w (kc := (0 + k_64)) (ks := (0 + s_65)) rfl rfl ?_))
        have hb := Bd.ade hb ea_67 eb_68
        refine rb_goto (tgt := 57) C dJ2_substring_44 (by decide) ?_
        cases hf
        exact rb_aret C rfl (Or.inl ⟨_, rfl⟩) (Or.inr ⟨_, rfl⟩) hb.e.2.1 hb.e.2.2 dJ2_substring_57 ⟨rfl, rfl, hb.e.1⟩
    · have hf := (if_pos c_40).symm.trans hf
      refine rb_aload_n C dJ2_substring_20 rfl 1 rfl ?_
      cases hf
      exact rb_aret C rfl (Or.inl ⟨_, rfl⟩) (Or.inr ⟨_, rfl⟩) hb.e.2.1 hb.e.2.2 dJ2_substring_21 ⟨rfl, rfl, hb.e.1⟩
def f_J2_substring_2 (Ev : rb_E) (h : AH) (n : Nat) (o : Nat) (x1 : Int32) : Option (Nat × AH × Nat × Nat) := ((hp_k Ev h o 14).bind fun u_1 => ((f_J2_length Ev h o).bind fun v_4 => ((hp_k Ev h o 14).bind fun u_6 => ((f_J2_substring Ev h n o x1 v_4).bind fun (r_9, h_10, k_11, s_12) => (ad k_11 s_12 (some (r_9, h_10, 0, 0)))))))
abbrev rm_J2_substring_2 (k s : Nat) : Room := { frames := 7, cells := k, slots := s, locals := 179 }
set_option maxHeartbeats 4000000 in
theorem ct_J2_substring_2 (Ev : rb_E) (h : AH) (n : Nat) (o : Nat) (x1 : Int32) (r : Nat) (h' : AH) (k s : Nat) (hf : f_J2_substring_2 Ev h n o x1 = some (r, h', k, s)) : Ct Ev yJ2_substring_2 (ws_ yJ2_substring_2 cJ2_substring_2 2 (some (.object "java/lang/String"))) (rm_J2_substring_2 k s) [.ref o, .int x1] h n (pX (.inl (some (.ref r))) h' (n + k)) := by
  rw [f_J2_substring_2] at hf
  refine Ct.of rfl (Nat.le_of_ble_eq_true rfl) fun X C hnm => ?_
  have C : Cx Ev X RJ2 cJ2_substring_2 2 (some (.object "java/lang/String")) [] := C
  show Wa Ev X (rm_J2_substring_2 k s) 2 h n 0 0 (rb_MQ Ev X (rm_J2_substring_2 k s) (pX (.inl (some (.ref r))) h' (n + k))) 0 [(0, .ref o), (1, .int x1)] []
  have hb : Bd (n + k) k s n 0 0 k s := ⟨rfl, Nat.le_of_eq (Nat.zero_add _), Nat.le_of_eq (Nat.zero_add _)⟩
  refine rb_aload_n C dJ2_substring_2_0 rfl 0 rfl ?_
  refine rb_iload_n C dJ2_substring_2_1 rfl 1 rfl ?_
  refine rb_aload_n C dJ2_substring_2_2 rfl 0 rfl ?_
  obtain ⟨u_1, e_2, hf⟩ := rb_bd hf
  obtain ⟨v_4, e_5, hf⟩ := rb_bd hf
  refine rb_callV (As := []) (rest := [.int x1, .ref o]) C mi_J2_length sv_J2_505 (hp_k_isC C.pf e_2 ck_J2) (ct_J2_length Ev h n o _ e_5) rfl rfl (Nat.le_of_ble_eq_true rfl) ⟨Nat.le_of_ble_eq_true rfl, Nat.le_of_ble_eq_true rfl, hb.c0, hb.s0⟩ dJ2_substring_2_3 rb_xXi (rb_kXi fun hn_3 => (rb_w (kc := 0) (ks := 0) rfl rfl ?_))
  obtain ⟨u_6, e_7, hf⟩ := rb_bd hf
  obtain ⟨⟨r_9, h_10, k_11, s_12⟩, e_13, hf⟩ := rb_bd hf
  obtain ⟨a_16, b_17, hf, ea_14, eb_15⟩ := ad_at hf
  refine rb_callV (As := [.int x1, .int v_4]) (rest := []) C mi_J2_substring sv_J2_681 (hp_k_isC C.pf e_7 ck_J2) (ct_J2_substring Ev h n o x1 v_4 r_9 _ _ _ e_13) rfl rfl (Nat.le_of_ble_eq_true rfl) ⟨Nat.le_of_ble_eq_true rfl, Nat.le_of_ble_eq_true rfl, Bd.c1 hb ea_14, Bd.s1 hb eb_15⟩ dJ2_substring_2_6 rb_xX (rb_kX (rb_w (kc := (0 + k_11)) (ks := (0 + s_12)) rfl rfl ?_))
  have hb := Bd.ade hb ea_14 eb_15
  cases hf
  exact rb_aret C rfl (Or.inl ⟨_, rfl⟩) (Or.inr ⟨_, rfl⟩) hb.e.2.1 hb.e.2.2 dJ2_substring_2_9 ⟨rfl, rfl, hb.e.1⟩
def f_X1_withoutPair (Ev : rb_E) (h : AH) (n : Nat) (x0 : Nat) (x1 : Int32) : Option (Nat × AH × Nat × Nat) := ((f_X1_closing Ev h x0 x1).bind fun v_2 => (ad 1 4 (rb_lt (va_up h n (some (.inr (13, [.null, .int 0, .int 0, .int 0])))) fun h_8 => ((f_J1_init Ev h_8 (n + 1) n).bind fun (r_10, h_11, k_12, s_13) => (ad k_12 s_13 ((hp_k Ev h_11 x0 14).bind fun u_19 => ((f_J2_substring Ev h_11 ((n + 1) + k_12) x0 0 x1).bind fun (r_22, h_23, k_24, s_25) => (ad k_24 s_25 ((hp_k Ev h_23 n 13).bind fun u_31 => ((f_J1_append_3 Ev h_23 (((n + 1) + k_12) + k_24) n r_22).bind fun (r_34, h_35, k_36, s_37) => (ad k_36 s_37 ((hp_k Ev h_35 x0 14).bind fun u_43 => ((f_J2_substring Ev h_35 ((((n + 1) + k_12) + k_24) + k_36) x0 (x1 + 1) v_2).bind fun (r_46, h_47, k_48, s_49) => (ad k_48 s_49 ((hp_k Ev h_47 r_34 13).bind fun u_55 => ((f_J1_append_3 Ev h_47 (((((n + 1) + k_12) + k_24) + k_36) + k_48) r_34 r_46).bind fun (r_58, h_59, k_60, s_61) => (ad k_60 s_61 ((hp_k Ev h_59 x0 14).bind fun u_67 => ((f_J2_substring_2 Ev h_59 ((((((n + 1) + k_12) + k_24) + k_36) + k_48) + k_60) x0 (v_2 + 1)).bind fun (r_70, h_71, k_72, s_73) => (ad k_72 s_73 ((hp_k Ev h_71 r_58 13).bind fun u_79 => ((f_J1_append_3 Ev h_71 (((((((n + 1) + k_12) + k_24) + k_36) + k_48) + k_60) + k_72) r_58 r_70).bind fun (r_82, h_83, k_84, s_85) => (ad k_84 s_85 ((hp_k Ev h_83 r_82 13).bind fun u_91 => ((f_J1_toString Ev h_83 ((((((((n + 1) + k_12) + k_24) + k_36) + k_48) + k_60) + k_72) + k_84) r_82).bind fun (r_94, h_95, k_96, s_97) => (ad k_96 s_97 (some (r_94, h_95, 0, 0))))))))))))))))))))))))))))
abbrev rm_X1_withoutPair (k s : Nat) : Room := { frames := 10, cells := k, slots := s, locals := 223 }
set_option maxHeartbeats 4000000 in
theorem ct_X1_withoutPair (Ev : rb_E) (h : AH) (n : Nat) (x0 : Nat) (x1 : Int32) (r : Nat) (h' : AH) (k s : Nat) (hf : f_X1_withoutPair Ev h n x0 x1 = some (r, h', k, s)) : Ct Ev yX1_withoutPair (ws_ yX1_withoutPair cX1_withoutPair 3 (some (.object "java/lang/String"))) (rm_X1_withoutPair k s) [.ref x0, .int x1] h n (pX (.inl (some (.ref r))) h' (n + k)) := by
  rw [f_X1_withoutPair] at hf
  refine Ct.of rfl (Nat.le_of_ble_eq_true rfl) fun X C hnm => ?_
  have C : Cx Ev X RX1 cX1_withoutPair 3 (some (.object "java/lang/String")) [] := C
  show Wa Ev X (rm_X1_withoutPair k s) 3 h n 0 0 (rb_MQ Ev X (rm_X1_withoutPair k s) (pX (.inl (some (.ref r))) h' (n + k))) 0 [(0, .ref x0), (1, .int x1)] []
  have hb : Bd (n + k) k s n 0 0 k s := ⟨rfl, Nat.le_of_eq (Nat.zero_add _), Nat.le_of_eq (Nat.zero_add _)⟩
  refine rb_aload_n C dX1_withoutPair_0 rfl 0 rfl ?_
  refine rb_iload_n C dX1_withoutPair_1 rfl 1 rfl ?_
  obtain ⟨v_2, e_3, hf⟩ := rb_bd hf
  refine rb_callS (As := [.ref x0, .int x1]) (rest := []) C mi_X1_closing ss_X1_263 (ct_X1_closing Ev h n x0 x1 _ e_3) rfl rfl (Nat.le_of_ble_eq_true rfl) ⟨Nat.le_of_ble_eq_true rfl, Nat.le_of_ble_eq_true rfl, hb.c0, hb.s0⟩ dX1_withoutPair_2 rb_xXi (rb_kXi fun hn_1 => (rb_w (kc := 0) (ks := 0) rfl rfl ?_))
  refine rb_istore_n (lv' := [(2, .int v_2), (0, .ref x0), (1, .int x1)]) C dX1_withoutPair_5 rfl (by decide) rfl ?_
  obtain ⟨a_6, b_7, hf, ea_4, eb_5⟩ := ad_at hf
  refine rb_hnew C ck_J1 q225 q132 q72 [.null, .int 0, .int 0, .int 0] rfl (Bd.c1 hb ea_4) (Bd.s1 hb eb_5) dX1_withoutPair_6 ?_
  have hb := Bd.ade hb ea_4 eb_5
  obtain ⟨h_8, e_h_8⟩ : ∃ z, z = (va_up h n (some (.inr (13, [.null, .int 0, .int 0, .int 0])))) := ⟨_, rfl⟩
  rw [← e_h_8]
  have hf := rb_let hf e_h_8
  refine rb_dup C dX1_withoutPair_9 rfl ?_
  obtain ⟨⟨r_10, h_11, k_12, s_13⟩, e_14, hf⟩ := rb_bd hf
  obtain ⟨a_17, b_18, hf, ea_15, eb_16⟩ := ad_at hf
  refine rb_callI (As := []) (rest := [.ref n]) C mi_J1_init si_X1_65 (ct_J1_init Ev h_8 (n + 1) n r_10 _ _ _ e_14) rfl rfl (Nat.le_of_ble_eq_true rfl) ⟨Nat.le_of_ble_eq_true rfl, Nat.le_of_ble_eq_true rfl, Bd.c1 hb ea_15, Bd.s1 hb eb_16⟩ dX1_withoutPair_10 rb_xX (rb_kX (rb_w (kc := ((0 + 1) + k_12)) (ks := ((0 + 4) + s_13)) rfl rfl ?_))
  have hb := Bd.ade hb ea_15 eb_16
  refine rb_aload_n C dX1_withoutPair_13 rfl 1 rfl ?_
  refine rb_iconst (v := 0) C dX1_withoutPair_14 rfl ?_
  refine rb_iload_n C dX1_withoutPair_15 rfl 2 rfl ?_
  obtain ⟨u_19, e_20, hf⟩ := rb_bd hf
  obtain ⟨⟨r_22, h_23, k_24, s_25⟩, e_26, hf⟩ := rb_bd hf
  obtain ⟨a_29, b_30, hf, ea_27, eb_28⟩ := ad_at hf
  refine rb_callV (As := [.int 0, .int x1]) (rest := [.ref n]) C mi_J2_substring sv_X1_267 (hp_k_isC C.pf e_20 ck_J2) (ct_J2_substring Ev h_11 ((n + 1) + k_12) x0 0 x1 r_22 _ _ _ e_26) rfl rfl (Nat.le_of_ble_eq_true rfl) ⟨Nat.le_of_ble_eq_true rfl, Nat.le_of_ble_eq_true rfl, Bd.c1 hb ea_27, Bd.s1 hb eb_28⟩ dX1_withoutPair_16 rb_xX (rb_kX (rb_w (kc := (((0 + 1) + k_12) + k_24)) (ks := (((0 + 4) + s_13) + s_25)) rfl rfl ?_))
  have hb := Bd.ade hb ea_27 eb_28
  obtain ⟨u_31, e_32, hf⟩ := rb_bd hf
  obtain ⟨⟨r_34, h_35, k_36, s_37⟩, e_38, hf⟩ := rb_bd hf
  obtain ⟨a_41, b_42, hf, ea_39, eb_40⟩ := ad_at hf
  refine rb_callV (As := [.ref r_22]) (rest := []) C mi_J1_append_3 sv_X1_68 (hp_k_isC C.pf e_32 ck_J1) (ct_J1_append_3 Ev h_23 (((n + 1) + k_12) + k_24) n r_22 r_34 _ _ _ e_38) rfl rfl (Nat.le_of_ble_eq_true rfl) ⟨Nat.le_of_ble_eq_true rfl, Nat.le_of_ble_eq_true rfl, Bd.c1 hb ea_39, Bd.s1 hb eb_40⟩ dX1_withoutPair_19 rb_xX (rb_kX (rb_w (kc := ((((0 + 1) + k_12) + k_24) + k_36)) (ks := ((((0 + 4) + s_13) + s_25) + s_37)) rfl rfl ?_))
  have hb := Bd.ade hb ea_39 eb_40
  refine rb_aload_n C dX1_withoutPair_22 rfl 1 rfl ?_
  refine rb_iload_n C dX1_withoutPair_23 rfl 2 rfl ?_
  refine rb_iconst (v := 1) C dX1_withoutPair_24 rfl ?_
  refine rb_iadd C dX1_withoutPair_25 ?_
  refine rb_iload_n C dX1_withoutPair_26 rfl 0 rfl ?_
  obtain ⟨u_43, e_44, hf⟩ := rb_bd hf
  obtain ⟨⟨r_46, h_47, k_48, s_49⟩, e_50, hf⟩ := rb_bd hf
  obtain ⟨a_53, b_54, hf, ea_51, eb_52⟩ := ad_at hf
  refine rb_callV (As := [.int (x1 + 1), .int v_2]) (rest := [.ref r_34]) C mi_J2_substring sv_X1_267 (hp_k_isC C.pf e_44 ck_J2) (ct_J2_substring Ev h_35 ((((n + 1) + k_12) + k_24) + k_36) x0 (x1 + 1) v_2 r_46 _ _ _ e_50) rfl rfl (Nat.le_of_ble_eq_true rfl) ⟨Nat.le_of_ble_eq_true rfl, Nat.le_of_ble_eq_true rfl, Bd.c1 hb ea_51, Bd.s1 hb eb_52⟩ dX1_withoutPair_27 rb_xX (rb_kX (rb_w (kc := (((((0 + 1) + k_12) + k_24) + k_36) + k_48)) (ks := (((((0 + 4) + s_13) + s_25) + s_37) + s_49)) rfl rfl ?_))
  have hb := Bd.ade hb ea_51 eb_52
  obtain ⟨u_55, e_56, hf⟩ := rb_bd hf
  obtain ⟨⟨r_58, h_59, k_60, s_61⟩, e_62, hf⟩ := rb_bd hf
  obtain ⟨a_65, b_66, hf, ea_63, eb_64⟩ := ad_at hf
  refine rb_callV (As := [.ref r_46]) (rest := []) C mi_J1_append_3 sv_X1_68 (hp_k_isC C.pf e_56 ck_J1) (ct_J1_append_3 Ev h_47 (((((n + 1) + k_12) + k_24) + k_36) + k_48) r_34 r_46 r_58 _ _ _ e_62) rfl rfl (Nat.le_of_ble_eq_true rfl) ⟨Nat.le_of_ble_eq_true rfl, Nat.le_of_ble_eq_true rfl, Bd.c1 hb ea_63, Bd.s1 hb eb_64⟩ dX1_withoutPair_30 rb_xX (rb_kX (rb_w (kc := ((((((0 + 1) + k_12) + k_24) + k_36) + k_48) + k_60)) (ks := ((((((0 + 4) + s_13) + s_25) + s_37) + s_49) + s_61)) rfl rfl ?_))
  have hb := Bd.ade hb ea_63 eb_64
  refine rb_aload_n C dX1_withoutPair_33 rfl 1 rfl ?_
  refine rb_iload_n C dX1_withoutPair_34 rfl 0 rfl ?_
  refine rb_iconst (v := 1) C dX1_withoutPair_35 rfl ?_
  refine rb_iadd C dX1_withoutPair_36 ?_
  obtain ⟨u_67, e_68, hf⟩ := rb_bd hf
  obtain ⟨⟨r_70, h_71, k_72, s_73⟩, e_74, hf⟩ := rb_bd hf
  obtain ⟨a_77, b_78, hf, ea_75, eb_76⟩ := ad_at hf
  refine rb_callV (As := [.int (v_2 + 1)]) (rest := [.ref r_58]) C mi_J2_substring_2 sv_X1_271 (hp_k_isC C.pf e_68 ck_J2) (ct_J2_substring_2 Ev h_59 ((((((n + 1) + k_12) + k_24) + k_36) + k_48) + k_60) x0 (v_2 + 1) r_70 _ _ _ e_74) rfl rfl (Nat.le_of_ble_eq_true rfl) ⟨Nat.le_of_ble_eq_true rfl, Nat.le_of_ble_eq_true rfl, Bd.c1 hb ea_75, Bd.s1 hb eb_76⟩ dX1_withoutPair_37 rb_xX (rb_kX (rb_w (kc := (((((((0 + 1) + k_12) + k_24) + k_36) + k_48) + k_60) + k_72)) (ks := (((((((0 + 4) + s_13) + s_25) + s_37) + s_49) + s_61) + s_73)) rfl rfl ?_))
  have hb := Bd.ade hb ea_75 eb_76
  obtain ⟨u_79, e_80, hf⟩ := rb_bd hf
  obtain ⟨⟨r_82, h_83, k_84, s_85⟩, e_86, hf⟩ := rb_bd hf
  obtain ⟨a_89, b_90, hf, ea_87, eb_88⟩ := ad_at hf
  refine rb_callV (As := [.ref r_70]) (rest := []) C mi_J1_append_3 sv_X1_68 (hp_k_isC C.pf e_80 ck_J1) (ct_J1_append_3 Ev h_71 (((((((n + 1) + k_12) + k_24) + k_36) + k_48) + k_60) + k_72) r_58 r_70 r_82 _ _ _ e_86) rfl rfl (Nat.le_of_ble_eq_true rfl) ⟨Nat.le_of_ble_eq_true rfl, Nat.le_of_ble_eq_true rfl, Bd.c1 hb ea_87, Bd.s1 hb eb_88⟩ dX1_withoutPair_40 rb_xX (rb_kX (rb_w (kc := ((((((((0 + 1) + k_12) + k_24) + k_36) + k_48) + k_60) + k_72) + k_84)) (ks := ((((((((0 + 4) + s_13) + s_25) + s_37) + s_49) + s_61) + s_73) + s_85)) rfl rfl ?_))
  have hb := Bd.ade hb ea_87 eb_88
  obtain ⟨u_91, e_92, hf⟩ := rb_bd hf
  obtain ⟨⟨r_94, h_95, k_96, s_97⟩, e_98, hf⟩ := rb_bd hf
  obtain ⟨a_101, b_102, hf, ea_99, eb_100⟩ := ad_at hf
  refine rb_callV (As := []) (rest := []) C mi_J1_toString sv_X1_78 (hp_k_isC C.pf e_92 ck_J1) (ct_J1_toString Ev h_83 ((((((((n + 1) + k_12) + k_24) + k_36) + k_48) + k_60) + k_72) + k_84) r_82 r_94 _ _ _ e_98) rfl rfl (Nat.le_of_ble_eq_true rfl) ⟨Nat.le_of_ble_eq_true rfl, Nat.le_of_ble_eq_true rfl, Bd.c1 hb ea_99, Bd.s1 hb eb_100⟩ dX1_withoutPair_43 rb_xX (rb_kX (rb_w (kc := (((((((((0 + 1) + k_12) + k_24) + k_36) + k_48) + k_60) + k_72) + k_84) + k_96)) (ks := (((((((((0 + 4) + s_13) + s_25) + s_37) + s_49) + s_61) + s_73) + s_85) + s_97)) rfl rfl ?_))
  have hb := Bd.ade hb ea_99 eb_100
  cases hf
  exact rb_aret C rfl (Or.inl ⟨_, rfl⟩) (Or.inr ⟨_, rfl⟩) hb.e.2.1 hb.e.2.2 dX1_withoutPair_46 ⟨rfl, rfl, hb.e.1⟩
def f_X1_fullTextOf (Ev : rb_E) (h : AH) (n : Nat) (o : Nat) (x1 : Nat) : Option (Nat × AH × Nat × Nat) := (ad 1 3 (rb_lt (va_up h n (some (.inr (5, [.null, .null, .int 0])))) fun h_5 => ((hp_p Ev h_5 o 0 0).bind fun v_6 => ((f_X7_init Ev h_5 (n + 1) n v_6 x1).bind fun (r_9, h_10, k_11, s_12) => (ad k_11 s_12 ((hp_k Ev h_10 n 5).bind fun u_18 => ((f_X7_part Ev 30 h_10 ((n + 1) + k_11) n 0).bind fun (r_21, h_22, k_23, s_24) => (ad k_23 s_24 ((f_X1_fullText Ev 30 h_22 (((n + 1) + k_11) + k_23) r_21).bind fun (r_31, h_32, k_33, s_34) => (ad k_33 s_34 (some (r_31, h_32, 0, 0))))))))))))
abbrev rm_X1_fullTextOf (k s : Nat) : Room := { frames := 73, cells := k, slots := s, locals := 2825 }
set_option maxHeartbeats 4000000 in
theorem ct_X1_fullTextOf (Ev : rb_E) (h : AH) (n : Nat) (o : Nat) (x1 : Nat) (r : Nat) (h' : AH) (k s : Nat) (hf : f_X1_fullTextOf Ev h n o x1 = some (r, h', k, s)) : Ct Ev yX1_fullTextOf (ws_ yX1_fullTextOf cX1_fullTextOf 2 (some (.object "java/lang/String"))) (rm_X1_fullTextOf k s) [.ref o, .ref x1] h n (pX (.inl (some (.ref r))) h' (n + k)) := by
  rw [f_X1_fullTextOf] at hf
  refine Ct.of rfl (Nat.le_of_ble_eq_true rfl) fun X C hnm => ?_
  have C : Cx Ev X RX1 cX1_fullTextOf 2 (some (.object "java/lang/String")) [] := C
  show Wa Ev X (rm_X1_fullTextOf k s) 2 h n 0 0 (rb_MQ Ev X (rm_X1_fullTextOf k s) (pX (.inl (some (.ref r))) h' (n + k))) 0 [(0, .ref o), (1, .ref x1)] []
  have hb : Bd (n + k) k s n 0 0 k s := ⟨rfl, Nat.le_of_eq (Nat.zero_add _), Nat.le_of_eq (Nat.zero_add _)⟩
  obtain ⟨a_3, b_4, hf, ea_1, eb_2⟩ := ad_at hf
  refine rb_hnew C ck_X7 q1755 q1065 q98 [.null, .null, .int 0] rfl (Bd.c1 hb ea_1) (Bd.s1 hb eb_2) dX1_fullTextOf_0 ?_
  have hb := Bd.ade hb ea_1 eb_2
  obtain ⟨h_5, e_h_5⟩ : ∃ z, z = (va_up h n (some (.inr (5, [.null, .null, .int 0])))) := ⟨_, rfl⟩
  rw [← e_h_5]
  have hf := rb_let hf e_h_5
  refine rb_dup C dX1_fullTextOf_3 rfl ?_
  refine rb_aload_n C dX1_fullTextOf_4 rfl 0 rfl ?_
  obtain ⟨v_6, e_7, hf⟩ := rb_bd hf
  refine rb_hP C fl_X1_104_X1 e_7 dX1_fullTextOf_5 ?_
  refine rb_aload_n C dX1_fullTextOf_8 rfl 1 rfl ?_
  obtain ⟨⟨r_9, h_10, k_11, s_12⟩, e_13, hf⟩ := rb_bd hf
  obtain ⟨a_16, b_17, hf, ea_14, eb_15⟩ := ad_at hf
  refine rb_callI (As := [.ref v_6, .ref x1]) (rest := [.ref n]) C mi_X7_init si_X1_276 (ct_X7_init Ev h_5 (n + 1) n v_6 x1 r_9 _ _ _ e_13) rfl rfl (Nat.le_of_ble_eq_true rfl) ⟨Nat.le_of_ble_eq_true rfl, Nat.le_of_ble_eq_true rfl, Bd.c1 hb ea_14, Bd.s1 hb eb_15⟩ dX1_fullTextOf_9 rb_xX (rb_kX (rb_w (kc := ((0 + 1) + k_11)) (ks := ((0 + 3) + s_12)) rfl rfl ?_))
  have hb := Bd.ade hb ea_14 eb_15
  refine rb_iconst (v := 0) C dX1_fullTextOf_12 rfl ?_
  obtain ⟨u_18, e_19, hf⟩ := rb_bd hf
  obtain ⟨⟨r_21, h_22, k_23, s_24⟩, e_25, hf⟩ := rb_bd hf
  obtain ⟨a_28, b_29, hf, ea_26, eb_27⟩ := ad_at hf
  refine rb_callV (As := [.int 0]) (rest := []) C mi_X7_part sv_X1_279 (hp_k_isC C.pf e_19 ck_X7) (ct_X7_part Ev h_10 ((n + 1) + k_11) 30 n 0 r_21 _ _ _ e_25) rfl rfl (Nat.le_of_ble_eq_true rfl) ⟨Nat.le_of_ble_eq_true rfl, Nat.le_of_ble_eq_true rfl, Bd.c1 hb ea_26, Bd.s1 hb eb_27⟩ dX1_fullTextOf_13 rb_xX (rb_kX (rb_w (kc := (((0 + 1) + k_11) + k_23)) (ks := (((0 + 3) + s_12) + s_24)) rfl rfl ?_))
  have hb := Bd.ade hb ea_26 eb_27
  obtain ⟨⟨r_31, h_32, k_33, s_34⟩, e_35, hf⟩ := rb_bd hf
  obtain ⟨a_38, b_39, hf, ea_36, eb_37⟩ := ad_at hf
  refine rb_callS (As := [.ref r_21]) (rest := []) C mi_X1_fullText ss_X1_72 (ct_X1_fullText Ev h_22 (((n + 1) + k_11) + k_23) 30 r_21 r_31 _ _ _ e_35) rfl rfl (Nat.le_of_ble_eq_true rfl) ⟨Nat.le_of_ble_eq_true rfl, Nat.le_of_ble_eq_true rfl, Bd.c1 hb ea_36, Bd.s1 hb eb_37⟩ dX1_fullTextOf_16 rb_xX (rb_kX (rb_w (kc := ((((0 + 1) + k_11) + k_23) + k_33)) (ks := ((((0 + 3) + s_12) + s_24) + s_34)) rfl rfl ?_))
  have hb := Bd.ade hb ea_36 eb_37
  cases hf
  exact rb_aret C rfl (Or.inl ⟨_, rfl⟩) (Or.inr ⟨_, rfl⟩) hb.e.2.1 hb.e.2.2 dX1_fullTextOf_19 ⟨rfl, rfl, hb.e.1⟩
def f_X1_neededPairs_j79_57 (Ev : rb_E) (y3_l24_42 : Int32) (y4_l24_42 : Int32) (rec_l24_42 : Int32 → Int32 → AH → Nat → Option ((Int32 ⊕ (String × Nat)) × AH × Nat × Nat)) (h_j66_55 : AH) (n_j66_55 : Nat) (w0_j79_57 : Int32) : Option ((Int32 ⊕ (String × Nat)) × AH × Nat × Nat) := (rec_l24_42 (y3_l24_42 + w0_j79_57) (y4_l24_42 + 1) h_j66_55 n_j66_55)
def f_X1_neededPairs_j66_55 (Ev : rb_E) (y3_l24_42 : Int32) (y4_l24_42 : Int32) (rec_l24_42 : Int32 → Int32 → AH → Nat → Option ((Int32 ⊕ (String × Nat)) × AH × Nat × Nat)) (w0_j66_55 : Int32) (h_j66_55 : AH) (n_j66_55 : Nat) : Option ((Int32 ⊕ (String × Nat)) × AH × Nat × Nat) := (if w0_j66_55 = 0 then (f_X1_neededPairs_j79_57 Ev y3_l24_42 y4_l24_42 rec_l24_42 h_j66_55 n_j66_55 0) else (f_X1_neededPairs_j79_57 Ev y3_l24_42 y4_l24_42 rec_l24_42 h_j66_55 n_j66_55 1))
def f_X1_neededPairs_l24_42 (Ev : rb_E) (o : Nat) (r_17 : Nat) (r_33 : Nat) : Nat → Int32 → Int32 → AH → Nat → Option ((Int32 ⊕ (String × Nat)) × AH × Nat × Nat)
  | 0, _, _, _, _ => none
  | k_l24_42 + 1, y3_l24_42, y4_l24_42, h_l24_42, n_l24_42 => ((hp_k Ev h_l24_42 r_33 14).bind fun u_43 => ((f_J2_length Ev h_l24_42 r_33).bind fun v_46 => (if v_46 ≤ y4_l24_42 then (some (.inl y3_l24_42, h_l24_42, 0, 0)) else ((hp_k Ev h_l24_42 r_33 14).bind fun u_49 => ((f_J2_charAt Ev h_l24_42 r_33 y4_l24_42).bind fun v_52 => (if v_52 = 40 then ((f_X1_withoutPair Ev h_l24_42 n_l24_42 r_33 y4_l24_42).bind fun (r_59, h_60, k_61, s_62) => (ad k_61 s_62 ((hp_k Ev h_60 o 0).bind fun u_68 => ((f_X1_fullTextOf Ev h_60 (n_l24_42 + k_61) o r_59).bind fun (r_71, h_72, k_73, s_74) => (ad k_73 s_74 ((hp_k Ev h_72 r_71 14).bind fun u_80 => ((f_J2_equals Ev h_72 r_71 r_17).bind fun v_83 => (if v_83 = 0 then (f_X1_neededPairs_j66_55 Ev y3_l24_42 y4_l24_42 (f_X1_neededPairs_l24_42 Ev o r_17 r_33 k_l24_42) 1 h_72 ((n_l24_42 + k_61) + k_73)) else (f_X1_neededPairs_j66_55 Ev y3_l24_42 y4_l24_42 (f_X1_neededPairs_l24_42 Ev o r_17 r_33 k_l24_42) 0 h_72 ((n_l24_42 + k_61) + k_73)))))))))) else (f_X1_neededPairs_j66_55 Ev y3_l24_42 y4_l24_42 (f_X1_neededPairs_l24_42 Ev o r_17 r_33 k_l24_42) 0 h_l24_42 n_l24_42)))))))
def f_X1_neededPairs (Ev : rb_E) (h : AH) (n : Nat) (o : Nat) : Option ((Int32 ⊕ (String × Nat)) × AH × Nat × Nat) := ((hp_k Ev h o 0).bind fun u_1 => ((f_X1_tree Ev h n o).bind fun (r_4, h_5, k_6, s_7) => (ad k_6 s_7 (match r_4 with | .inl v_13 => ((f_X1_fullText Ev 30 h_5 (n + k_6) v_13).bind fun (r_17, h_18, k_19, s_20) => (ad k_19 s_20 ((hp_p Ev h_18 o 0 0).bind fun v_26 => ((hp_p Ev h_18 v_26 1 0).bind fun v_28 => ((hp_k Ev h_18 v_28 13).bind fun u_30 => ((f_J1_toString Ev h_18 ((n + k_6) + k_19) v_28).bind fun (r_33, h_34, k_35, s_36) => (ad k_35 s_36 (f_X1_neededPairs_l24_42 Ev o r_17 r_33 4096 0 0 h_34 (((n + k_6) + k_19) + k_35))))))))) | .inr (E_14, q_15) => (if E_14 = "java/lang/UnsupportedOperationException" then (some (.inr ("java/lang/UnsupportedOperationException", q_15), h_5, 0, 0)) else none)))))
abbrev rm_X1_neededPairs (k s : Nat) : Room := { frames := 75, cells := k, slots := s, locals := 2866 }
set_option maxHeartbeats 4000000 in
theorem ct_X1_neededPairs (Ev : rb_E) (h : AH) (n : Nat) (o : Nat) (r : Int32 ⊕ (String × Nat)) (h' : AH) (k s : Nat) (hf : f_X1_neededPairs Ev h n o = some (r, h', k, s)) : Ct Ev yX1_neededPairs (ws_ yX1_neededPairs cX1_neededPairs 6 (some .int)) (rm_X1_neededPairs k s) [.ref o] h n (pX (rMap (fun v => some (.int v)) r) h' (n + k)) := by
  rw [f_X1_neededPairs] at hf
  refine Ct.of rfl (Nat.le_of_ble_eq_true rfl) fun X C hnm => ?_
  have C : Cx Ev X RX1 cX1_neededPairs 6 (some .int) [] := C
  show Wa Ev X (rm_X1_neededPairs k s) 6 h n 0 0 (rb_MQ Ev X (rm_X1_neededPairs k s) (pX (rMap (fun v => some (.int v)) r) h' (n + k))) 0 [(0, .ref o)] []
  have hb : Bd (n + k) k s n 0 0 k s := ⟨rfl, Nat.le_of_eq (Nat.zero_add _), Nat.le_of_eq (Nat.zero_add _)⟩
  refine rb_aload_n C dX1_neededPairs_0 rfl 0 rfl ?_
  obtain ⟨u_1, e_2, hf⟩ := rb_bd hf
  obtain ⟨⟨r_4, h_5, k_6, s_7⟩, e_8, hf⟩ := rb_bd hf
  obtain ⟨a_11, b_12, hf, ea_9, eb_10⟩ := ad_at hf
  rcases r_4 with v_13 | ⟨E_14, q_15⟩
  · dsimp only at hf
    refine rb_callVX (As := []) (rest := []) C mi_X1_tree sv_X1_239 (hp_k_isC C.pf e_2 ck_X1) (ct_X1_tree Ev h n o (.inl v_13) _ _ _ e_8) rfl rfl (Nat.le_of_ble_eq_true rfl) ⟨Nat.le_of_ble_eq_true rfl, Nat.le_of_ble_eq_true rfl, Bd.c1 hb ea_9, Bd.s1 hb eb_10⟩ dX1_neededPairs_1 rb_xX (rb_kX (r := some (.ref v_13)) (rb_w (kc := (0 + k_6)) (ks := (0 + s_7)) rfl rfl ?_))
    have hb := Bd.ade hb ea_9 eb_10
    obtain ⟨⟨r_17, h_18, k_19, s_20⟩, e_21, hf⟩ := rb_bd hf
    obtain ⟨a_24, b_25, hf, ea_22, eb_23⟩ := ad_at hf
    refine rb_callS (As := [.ref v_13]) (rest := []) C mi_X1_fullText ss_X1_72 (ct_X1_fullText Ev h_5 (n + k_6) 30 v_13 r_17 _ _ _ e_21) rfl rfl (Nat.le_of_ble_eq_true rfl) ⟨Nat.le_of_ble_eq_true rfl, Nat.le_of_ble_eq_true rfl, Bd.c1 hb ea_22, Bd.s1 hb eb_23⟩ dX1_neededPairs_4 rb_xX (rb_kX (rb_w (kc := ((0 + k_6) + k_19)) (ks := ((0 + s_7) + s_20)) rfl rfl ?_))
    have hb := Bd.ade hb ea_22 eb_23
    refine rb_astore_n (lv' := [(1, .ref r_17), (0, .ref o)]) C dX1_neededPairs_7 rfl (by decide) rfl ?_
    refine rb_aload_n C dX1_neededPairs_8 rfl 1 rfl ?_
    obtain ⟨v_26, e_27, hf⟩ := rb_bd hf
    refine rb_hP C fl_X1_104_X1 e_27 dX1_neededPairs_9 ?_
    obtain ⟨v_28, e_29, hf⟩ := rb_bd hf
    refine rb_hP C fl_X1_182_X2 e_29 dX1_neededPairs_12 ?_
    obtain ⟨u_30, e_31, hf⟩ := rb_bd hf
    obtain ⟨⟨r_33, h_34, k_35, s_36⟩, e_37, hf⟩ := rb_bd hf
    obtain ⟨a_40, b_41, hf, ea_38, eb_39⟩ := ad_at hf
    refine rb_callV (As := []) (rest := []) C mi_J1_toString sv_X1_78 (hp_k_isC C.pf e_31 ck_J1) (ct_J1_toString Ev h_18 ((n + k_6) + k_19) v_28 r_33 _ _ _ e_37) rfl rfl (Nat.le_of_ble_eq_true rfl) ⟨Nat.le_of_ble_eq_true rfl, Nat.le_of_ble_eq_true rfl, Bd.c1 hb ea_38, Bd.s1 hb eb_39⟩ dX1_neededPairs_15 rb_xX (rb_kX (rb_w (kc := (((0 + k_6) + k_19) + k_35)) (ks := (((0 + s_7) + s_20) + s_36)) rfl rfl ?_))
    have hb := Bd.ade hb ea_38 eb_39
    refine rb_astore_n (lv' := [(2, .ref r_33), (1, .ref r_17), (0, .ref o)]) C dX1_neededPairs_18 rfl (by decide) rfl ?_
    refine rb_iconst (v := 0) C dX1_neededPairs_19 rfl ?_
    refine rb_istore_n (lv' := [(3, .int 0), (2, .ref r_33), (1, .ref r_17), (0, .ref o)]) C dX1_neededPairs_20 rfl (by decide) rfl ?_
    refine rb_iconst (v := 0) C dX1_neededPairs_21 rfl ?_
    refine rb_istore (lv' := [(4, .int 0), (3, .int 0), (2, .ref r_33), (1, .ref r_17), (0, .ref o)]) C dX1_neededPairs_22 (by decide) rfl ?_
    have L_l24_42 : ∀ (k_l24_42 : Nat) (y3_l24_42 : Int32) (y4_l24_42 : Int32) (h_l24_42 : AH) (n_l24_42 kc_l24_42 ks_l24_42 a_ b_ : Nat), f_X1_neededPairs_l24_42 Ev o r_17 r_33 k_l24_42 y3_l24_42 y4_l24_42 h_l24_42 n_l24_42 = some (r, h', a_, b_) → Bd (n + k) k s n_l24_42 kc_l24_42 ks_l24_42 a_ b_ → Wa Ev X (rm_X1_neededPairs k s) 6 h_l24_42 n_l24_42 kc_l24_42 ks_l24_42 (rb_MQ Ev X (rm_X1_neededPairs k s) (pX (rMap (fun v => some (.int v)) r) h' (n + k))) 24 [(0, .ref o), (1, .ref r_17), (2, .ref r_33), (3, .int y3_l24_42), (4, .int y4_l24_42)] [] := by
      intro k_l24_42
      induction k_l24_42 with
      | zero => intro y3_l24_42 y4_l24_42 h_l24_42 n_l24_42 kc_l24_42 ks_l24_42 a_ b_ hf hb; cases hf
      | succ k_l24_42 ih_l24_42 =>
        intro y3_l24_42 y4_l24_42 h_l24_42 n_l24_42 kc_l24_42 ks_l24_42 a_ b_ hf hb
        rw [f_X1_neededPairs_l24_42] at hf
        refine rb_iload C dX1_neededPairs_24 4 rfl ?_
        refine rb_aload_n C dX1_neededPairs_26 rfl 2 rfl ?_
        obtain ⟨u_43, e_44, hf⟩ := rb_bd hf
        obtain ⟨v_46, e_47, hf⟩ := rb_bd hf
        refine rb_callV (As := []) (rest := [.int y4_l24_42]) C mi_J2_length sv_X1_228 (hp_k_isC C.pf e_44 ck_J2) (ct_J2_length Ev h_l24_42 n_l24_42 r_33 _ e_47) rfl rfl (Nat.le_of_ble_eq_true rfl) ⟨Nat.le_of_ble_eq_true rfl, Nat.le_of_ble_eq_true rfl, hb.c0, hb.s0⟩ dX1_neededPairs_27 rb_xXi (rb_kXi fun hn_45 => (rb_w (kc := kc_l24_42) (ks := ks_l24_42) rfl rfl ?_))
        refine rb_icmp_ge (tgt := 87) C dX1_neededPairs_30 (by decide) (fun c_48 => ?_) (fun c_48 => ?_)
        · have hf := (if_pos c_48).symm.trans hf
          refine rb_iload_n C dX1_neededPairs_87 rfl 3 rfl ?_
          cases hf
          exact rb_iret C rfl rfl hb.e.2.1 hb.e.2.2 dX1_neededPairs_88 ⟨rfl, rfl, hb.e.1⟩
        · have hf := (if_neg c_48).symm.trans hf
          refine rb_aload_n C dX1_neededPairs_33 rfl 2 rfl ?_
          refine rb_iload C dX1_neededPairs_34 4 rfl ?_
          obtain ⟨u_49, e_50, hf⟩ := rb_bd hf
          obtain ⟨v_52, e_53, hf⟩ := rb_bd hf
          refine rb_callV (As := [.int y4_l24_42]) (rest := []) C mi_J2_charAt sv_X1_233 (hp_k_isC C.pf e_50 ck_J2) (ct_J2_charAt Ev h_l24_42 n_l24_42 r_33 y4_l24_42 _ e_53) rfl rfl (Nat.le_of_ble_eq_true rfl) ⟨Nat.le_of_ble_eq_true rfl, Nat.le_of_ble_eq_true rfl, hb.c0, hb.s0⟩ dX1_neededPairs_36 rb_xXi (rb_kXi fun hn_51 => (rb_w (kc := kc_l24_42) (ks := ks_l24_42) rfl rfl ?_))
          refine rb_bipush (v := 40) C dX1_neededPairs_39 rfl ?_
          have J_j66_55 : ∀ (w0_j66_55 : Int32) (h_j66_55 : AH) (n_j66_55 : Nat) (kc_j66_55 ks_j66_55 a_ b_ : Nat), f_X1_neededPairs_j66_55 Ev y3_l24_42 y4_l24_42 (f_X1_neededPairs_l24_42 Ev o r_17 r_33 k_l24_42) w0_j66_55 h_j66_55 n_j66_55 = some (r, h', a_, b_) → Bd (n + k) k s n_j66_55 kc_j66_55 ks_j66_55 a_ b_ → Wa Ev X (rm_X1_neededPairs k s) 6 h_j66_55 n_j66_55 kc_j66_55 ks_j66_55 (rb_MQ Ev X (rm_X1_neededPairs k s) (pX (rMap (fun v => some (.int v)) r) h' (n + k))) 66 [(0, .ref o), (1, .ref r_17), (2, .ref r_33), (3, .int y3_l24_42), (4, .int y4_l24_42)] [.int w0_j66_55] := by
            intro w0_j66_55 h_j66_55 n_j66_55 kc_j66_55 ks_j66_55 a_ b_ hf hb
            rw [f_X1_neededPairs_j66_55] at hf
            refine rb_istore (lv' := [(5, .int w0_j66_55), (0, .ref o), (1, .ref r_17), (2, .ref r_33), (3, .int y3_l24_42), (4, .int y4_l24_42)]) C dX1_neededPairs_66 (by decide) rfl ?_
            refine rb_iload_n C dX1_neededPairs_68 rfl 4 rfl ?_
            refine rb_iload C dX1_neededPairs_69 0 rfl ?_
            have J_j79_57 : ∀ (w0_j79_57 : Int32) (kc_j79_57 ks_j79_57 a_ b_ : Nat), f_X1_neededPairs_j79_57 Ev y3_l24_42 y4_l24_42 (f_X1_neededPairs_l24_42 Ev o r_17 r_33 k_l24_42) h_j66_55 n_j66_55 w0_j79_57 = some (r, h', a_, b_) → Bd (n + k) k s n_j66_55 kc_j79_57 ks_j79_57 a_ b_ → Wa Ev X (rm_X1_neededPairs k s) 6 h_j66_55 n_j66_55 kc_j79_57 ks_j79_57 (rb_MQ Ev X (rm_X1_neededPairs k s) (pX (rMap (fun v => some (.int v)) r) h' (n + k))) 79 [(0, .ref o), (1, .ref r_17), (2, .ref r_33), (3, .int y3_l24_42), (4, .int y4_l24_42), (5, .int w0_j66_55)] [.int w0_j79_57, .int y3_l24_42] := by
              intro w0_j79_57 kc_j79_57 ks_j79_57 a_ b_ hf hb
              rw [f_X1_neededPairs_j79_57] at hf
              refine rb_iadd C dX1_neededPairs_79 ?_
              refine rb_istore_n (lv' := [(3, .int (y3_l24_42 + w0_j79_57)), (0, .ref o), (1, .ref r_17), (2, .ref r_33), (4, .int y4_l24_42), (5, .int w0_j66_55)]) C dX1_neededPairs_80 rfl (by decide) rfl ?_
              refine rb_iinc (v := (y4_l24_42 + 1)) (lv' := [(4, .int (y4_l24_42 + 1)), (3, .int (y3_l24_42 + w0_j79_57)), (0, .ref o), (1, .ref r_17), (2, .ref r_33), (5, .int w0_j66_55)]) C dX1_neededPairs_81 (k := 4) rfl rfl (by decide) rfl ?_
              refine rb_goto (tgt := 24) C dX1_neededPairs_84 (by decide) ?_
              refine rb_sub [2, 3, 4, 1, 0] rfl ?_
              exact ih_l24_42 (y3_l24_42 + w0_j79_57) (y4_l24_42 + 1) h_j66_55 n_j66_55 _ _ _ _ hf hb
            refine rb_if_eq (tgt := 78) C dX1_neededPairs_71 (by decide) (fun c_56 => ?_) (fun c_56 => ?_)
            · have hf := (if_pos c_56).symm.trans hf
              refine rb_iconst (v := 0) C dX1_neededPairs_78 rfl ?_
              refine rb_sub [1, 2, 3, 4, 5, 0] rfl ?_
              exact J_j79_57 0  _ _ _ _ hf hb
            · have hf := (if_neg c_56).symm.trans hf
              refine rb_iconst (v := 1) C dX1_neededPairs_74 rfl ?_
              refine rb_goto (tgt := 79) C dX1_neededPairs_75 (by decide) ?_
              refine rb_sub [1, 2, 3, 4, 5, 0] rfl ?_
              exact J_j79_57 1  _ _ _ _ hf hb
          refine rb_icmp_ne (tgt := 65) C dX1_neededPairs_41 (by decide) (fun c_54 => ?_) (fun c_54 => ?_)
          · have hf := (if_neg c_54).symm.trans hf
            refine rb_iconst (v := 0) C dX1_neededPairs_65 rfl ?_
            exact J_j66_55 0 h_l24_42 n_l24_42  _ _ _ _ hf hb
          · have hf := (if_pos c_54).symm.trans hf
            refine rb_aload_n C dX1_neededPairs_44 rfl 0 rfl ?_
            refine rb_aload_n C dX1_neededPairs_45 rfl 2 rfl ?_
            refine rb_iload C dX1_neededPairs_46 4 rfl ?_
            obtain ⟨⟨r_59, h_60, k_61, s_62⟩, e_63, hf⟩ := rb_bd hf
            obtain ⟨a_66, b_67, hf, ea_64, eb_65⟩ := ad_at hf
            refine rb_callS (As := [.ref r_33, .int y4_l24_42]) (rest := [.ref o]) C mi_X1_withoutPair ss_X1_283 (ct_X1_withoutPair Ev h_l24_42 n_l24_42 r_33 y4_l24_42 r_59 _ _ _ e_63) rfl rfl (Nat.le_of_ble_eq_true rfl) ⟨Nat.le_of_ble_eq_true rfl, Nat.le_of_ble_eq_true rfl, Bd.c1 hb ea_64, Bd.s1 hb eb_65⟩ dX1_neededPairs_48 rb_xX (rb_kX (rb_w (kc := (kc_l24_42 + k_61)) (ks := (ks_l24_42 + s_62)) rfl rfl ?_))
            have hb := Bd.ade hb ea_64 eb_65
            obtain ⟨u_68, e_69, hf⟩ := rb_bd hf
            obtain ⟨⟨r_71, h_72, k_73, s_74⟩, e_75, hf⟩ := rb_bd hf
            obtain ⟨a_78, b_79, hf, ea_76, eb_77⟩ := ad_at hf
            refine rb_callV (As := [.ref r_59]) (rest := []) C mi_X1_fullTextOf sv_X1_287 (hp_k_isC C.pf e_69 ck_X1) (ct_X1_fullTextOf Ev h_60 (n_l24_42 + k_61) o r_59 r_71 _ _ _ e_75) rfl rfl (Nat.le_of_ble_eq_true rfl) ⟨Nat.le_of_ble_eq_true rfl, Nat.le_of_ble_eq_true rfl, Bd.c1 hb ea_76, Bd.s1 hb eb_77⟩ dX1_neededPairs_51 rb_xX (rb_kX (rb_w (kc := ((kc_l24_42 + k_61) + k_73)) (ks := ((ks_l24_42 + s_62) + s_74)) rfl rfl ?_))
            have hb := Bd.ade hb ea_76 eb_77
            refine rb_aload_n C dX1_neededPairs_54 rfl 1 rfl ?_
            obtain ⟨u_80, e_81, hf⟩ := rb_bd hf
            obtain ⟨v_83, e_84, hf⟩ := rb_bd hf
            refine rb_callV (As := [.ref r_17]) (rest := []) C mi_J2_equals sv_X1_291 (hp_k_isC C.pf e_81 ck_J2) (ct_J2_equals Ev h_72 ((n_l24_42 + k_61) + k_73) r_71 r_17 _ e_84) rfl rfl (Nat.le_of_ble_eq_true rfl) ⟨Nat.le_of_ble_eq_true rfl, Nat.le_of_ble_eq_true rfl, hb.c0, hb.s0⟩ dX1_neededPairs_55 rb_xXi (rb_kXi fun hn_82 => (rb_w (kc := ((kc_l24_42 + k_61) + k_73)) (ks := ((ks_l24_42 + s_62) + s_74)) rfl rfl ?_))
            refine rb_if_ne (tgt := 65) C dX1_neededPairs_58 (by decide) (fun c_85 => ?_) (fun c_85 => ?_)
            · have hf := (if_neg c_85).symm.trans hf
              refine rb_iconst (v := 0) C dX1_neededPairs_65 rfl ?_
              exact J_j66_55 0 h_72 ((n_l24_42 + k_61) + k_73)  _ _ _ _ hf hb
            · have hf := (if_pos c_85).symm.trans hf
              refine rb_iconst (v := 1) C dX1_neededPairs_61 rfl ?_
              refine rb_goto (tgt := 66) C dX1_neededPairs_62 (by decide) ?_
              exact J_j66_55 1 h_72 ((n_l24_42 + k_61) + k_73)  _ _ _ _ hf hb
    refine rb_sub [4, 3, 2, 1, 0] rfl ?_
    exact L_l24_42 4096 0 0 h_34 (((n + k_6) + k_19) + k_35) _ _ _ _ hf hb
  · dsimp only at hf
    by_cases c_86 : E_14 = "java/lang/UnsupportedOperationException"
    · have hf := (if_pos c_86).symm.trans hf
      subst c_86
      refine rb_callVX (As := []) (rest := []) C mi_X1_tree sv_X1_239 (hp_k_isC C.pf e_2 ck_X1) (ct_X1_tree Ev h n o (.inr ("java/lang/UnsupportedOperationException", q_15)) _ _ _ e_8) rfl rfl (Nat.le_of_ble_eq_true rfl) ⟨Nat.le_of_ble_eq_true rfl, Nat.le_of_ble_eq_true rfl, Bd.c1 hb ea_9, Bd.s1 hb eb_10⟩ dX1_neededPairs_1 (rb_xY (E := "java/lang/UnsupportedOperationException") (rb_wX (kc := (0 + k_6)) (ks := (0 + s_7)) rfl rfl ?_)) rb_kY
      have hb := Bd.ade hb ea_9 eb_10
      cases hf
      exact rb_out C (fun _ z => absurd z List.not_mem_nil) hb.e.2.1 hb.e.2.2 ⟨rfl, rfl, hb.e.1⟩
    have hf := (if_neg c_86).symm.trans hf
    cases hf
