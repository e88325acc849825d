set_option maxRecDepth 100000
set_option linter.unusedVariables false
def f_X6_init_2 (Ev : rb_E) (h : AH) (n : Nat) (o : Nat) (x1 : Int32) (x2 : Int32) (x3 : Option Nat) : Option (Unit × AH × Nat × Nat) := (match x3 with | none => ((f_J13_init_3_X6 Ev h n o none none 0 0).bind fun (r_2, h_3, k_4, s_5) => (ad k_4 s_5 ((hp_put h_3 o 4 6 (.int x1)).bind fun h_11 => ((hp_put h_11 o 4 7 (.int x2)).bind fun h_13 => (some ((), h_13, 0, 0)))))) | some x3_q => ((f_J13_init_3_X6 Ev h n o none (some x3_q) 0 0).bind fun (r_16, h_17, k_18, s_19) => (ad k_18 s_19 ((hp_put h_17 o 4 6 (.int x1)).bind fun h_25 => ((hp_put h_25 o 4 7 (.int x2)).bind fun h_27 => (some ((), h_27, 0, 0)))))))
abbrev rm_X6_init_2 (k s : Nat) : Room := { frames := 3, cells := k, slots := s, locals := 88 }
set_option maxHeartbeats 4000000 in
theorem ct_X6_init_2 (Ev : rb_E) (h : AH) (n : Nat) (o : Nat) (x1 : Int32) (x2 : Int32) (x3 : Option Nat) (r : Unit) (h' : AH) (k s : Nat) (hf : f_X6_init_2 Ev h n o x1 x2 x3 = some (r, h', k, s)) : Ct Ev yX6_init_2 (ws_ yX6_init_2 cX6_init_2 4 none) (rm_X6_init_2 k s) [.ref o, .int x1, .int x2, va_rf x3] h n (pX (.inl (none)) h' (n + k)) := by
  unfold f_X6_init_2 at hf
  cases x3 with
  | none =>
    dsimp only at hf
    refine Ct.of rfl (Nat.le_of_ble_eq_true rfl) fun X C hnm => ?_
    have C : Cx Ev X RX6 cX6_init_2 4 none [] := C
    show Wa Ev X (rm_X6_init_2 k s) 4 h n 0 0 (rb_MQ Ev X (rm_X6_init_2 k s) (pX (.inl (none)) h' (n + k))) 0 [(0, .ref o), (1, .int x1), (2, .int x2), (3, .null)] []
    have hb : Bd (n + k) k s n 0 0 k s := ⟨rfl, Nat.le_of_eq (Nat.zero_add _), Nat.le_of_eq (Nat.zero_add _)⟩
    refine rb_aload_n C dX6_init_2_0 rfl 0 rfl ?_
    refine rb_null C dX6_init_2_1 ?_
    refine rb_aload_nN C dX6_init_2_2 rfl 3 rfl ?_
    refine rb_iconst (v := 0) C dX6_init_2_3 rfl ?_
    refine rb_iconst (v := 0) C dX6_init_2_4 rfl ?_
    obtain ⟨⟨r_2, h_3, k_4, s_5⟩, e_6, hf⟩ := rb_bd hf
    obtain ⟨a_9, b_10, hf, ea_7, eb_8⟩ := ad_at hf
    refine rb_callI (As := [.null, .null, .int 0, .int 0]) (rest := []) C mi_J13_init_3 si_X6_7 (ct_J13_init_3_X6 Ev h n o none none 0 0 r_2 _ _ _ e_6) rfl rfl (Nat.le_of_ble_eq_true rfl) ⟨Nat.le_of_ble_eq_true rfl, Nat.le_of_ble_eq_true rfl, Bd.c1 hb ea_7, Bd.s1 hb eb_8⟩ dX6_init_2_5 rb_xX (rb_kX (rb_w (kc := (0 + k_4)) (ks := (0 + s_5)) rfl rfl ?_))
    have hb := Bd.ade hb ea_7 eb_8
    refine rb_aload_n C dX6_init_2_8 rfl 0 rfl ?_
    refine rb_iload_n C dX6_init_2_9 rfl 1 rfl ?_
    obtain ⟨h_11, e_12, hf⟩ := rb_bd hf
    refine rb_hputF C ff_X6_12_X6 hnm e_12 rfl rfl dX6_init_2_10 ?_
    refine rb_aload_n C dX6_init_2_13 rfl 0 rfl ?_
    refine rb_iload_n C dX6_init_2_14 rfl 2 rfl ?_
    obtain ⟨h_13, e_14, hf⟩ := rb_bd hf
    refine rb_hputF C ff_X6_16_X6 hnm e_14 rfl rfl dX6_init_2_15 ?_
    cases hf
    exact rb_vret C rfl hb.e.2.1 hb.e.2.2 dX6_init_2_18 ⟨rfl, rfl, hb.e.1⟩
  | some x3_q =>
    dsimp only at hf
    refine Ct.of rfl (Nat.le_of_ble_eq_true rfl) fun X C hnm => ?_
    have C : Cx Ev X RX6 cX6_init_2 4 none [] := C
    show Wa Ev X (rm_X6_init_2 k s) 4 h n 0 0 (rb_MQ Ev X (rm_X6_init_2 k s) (pX (.inl (none)) h' (n + k))) 0 [(0, .ref o), (1, .int x1), (2, .int x2), (3, .ref x3_q)] []
    have hb : Bd (n + k) k s n 0 0 k s := ⟨rfl, Nat.le_of_eq (Nat.zero_add _), Nat.le_of_eq (Nat.zero_add _)⟩
    refine rb_aload_n C dX6_init_2_0 rfl 0 rfl ?_
    refine rb_null C dX6_init_2_1 ?_
    refine rb_aload_n C dX6_init_2_2 rfl 3 rfl ?_
    refine rb_iconst (v := 0) C dX6_init_2_3 rfl ?_
    refine rb_iconst (v := 0) C dX6_init_2_4 rfl ?_
    obtain ⟨⟨r_16, h_17, k_18, s_19⟩, e_20, hf⟩ := rb_bd hf
    obtain ⟨a_23, b_24, hf, ea_21, eb_22⟩ := ad_at hf
    refine rb_callI (As := [.null, .ref x3_q, .int 0, .int 0]) (rest := []) C mi_J13_init_3 si_X6_7 (ct_J13_init_3_X6 Ev h n o none (some x3_q) 0 0 r_16 _ _ _ e_20) rfl rfl (Nat.le_of_ble_eq_true rfl) ⟨Nat.le_of_ble_eq_true rfl, Nat.le_of_ble_eq_true rfl, Bd.c1 hb ea_21, Bd.s1 hb eb_22⟩ dX6_init_2_5 rb_xX (rb_kX (rb_w (kc := (0 + k_18)) (ks := (0 + s_19)) rfl rfl ?_))
    have hb := Bd.ade hb ea_21 eb_22
    refine rb_aload_n C dX6_init_2_8 rfl 0 rfl ?_
    refine rb_iload_n C dX6_init_2_9 rfl 1 rfl ?_
    obtain ⟨h_25, e_26, hf⟩ := rb_bd hf
    refine rb_hputF C ff_X6_12_X6 hnm e_26 rfl rfl dX6_init_2_10 ?_
    refine rb_aload_n C dX6_init_2_13 rfl 0 rfl ?_
    refine rb_iload_n C dX6_init_2_14 rfl 2 rfl ?_
    obtain ⟨h_27, e_28, hf⟩ := rb_bd hf
    refine rb_hputF C ff_X6_16_X6 hnm e_28 rfl rfl dX6_init_2_15 ?_
    cases hf
    exact rb_vret C rfl hb.e.2.1 hb.e.2.2 dX6_init_2_18 ⟨rfl, rfl, hb.e.1⟩
def f_X6_init (Ev : rb_E) (h : AH) (n : Nat) (o : Nat) (x1 : Int32) (x2 : Int32) : Option (Unit × AH × Nat × Nat) := ((f_X6_init_2 Ev h n o x1 x2 none).bind fun (r_2, h_3, k_4, s_5) => (ad k_4 s_5 (some ((), h_3, 0, 0))))
abbrev rm_X6_init (k s : Nat) : Room := { frames := 4, cells := k, slots := s, locals := 111 }
set_option maxHeartbeats 4000000 in
theorem ct_X6_init (Ev : rb_E) (h : AH) (n : Nat) (o : Nat) (x1 : Int32) (x2 : Int32) (r : Unit) (h' : AH) (k s : Nat) (hf : f_X6_init Ev h n o x1 x2 = some (r, h', k, s)) : Ct Ev yX6_init (ws_ yX6_init cX6_init 3 none) (rm_X6_init k s) [.ref o, .int x1, .int x2] h n (pX (.inl (none)) h' (n + k)) := by
  rw [f_X6_init] at hf
  refine Ct.of rfl (Nat.le_of_ble_eq_true rfl) fun X C hnm => ?_
  have C : Cx Ev X RX6 cX6_init 3 none [] := C
  show Wa Ev X (rm_X6_init k s) 3 h n 0 0 (rb_MQ Ev X (rm_X6_init k s) (pX (.inl (none)) h' (n + k))) 0 [(0, .ref o), (1, .int x1), (2, .int x2)] []
  have hb : Bd (n + k) k s n 0 0 k s := ⟨rfl, Nat.le_of_eq (Nat.zero_add _), Nat.le_of_eq (Nat.zero_add _)⟩
  refine rb_aload_n C dX6_init_0 rfl 0 rfl ?_
  refine rb_iload_n C dX6_init_1 rfl 1 rfl ?_
  refine rb_iload_n C dX6_init_2 rfl 2 rfl ?_
  refine rb_null C dX6_init_3 ?_
  obtain ⟨⟨r_2, h_3, k_4, s_5⟩, e_6, hf⟩ := rb_bd hf
  obtain ⟨a_9, b_10, hf, ea_7, eb_8⟩ := ad_at hf
  refine rb_callI (As := [.int x1, .int x2, .null]) (rest := []) C mi_X6_init_2 si_X6_1 (ct_X6_init_2 Ev h n o x1 x2 none r_2 _ _ _ e_6) rfl rfl (Nat.le_of_ble_eq_true rfl) ⟨Nat.le_of_ble_eq_true rfl, Nat.le_of_ble_eq_true rfl, Bd.c1 hb ea_7, Bd.s1 hb eb_8⟩ dX6_init_4 rb_xX (rb_kX (rb_w (kc := (0 + k_4)) (ks := (0 + s_5)) rfl rfl ?_))
  have hb := Bd.ade hb ea_7 eb_8
  cases hf
  exact rb_vret C rfl hb.e.2.1 hb.e.2.2 dX6_init_7 ⟨rfl, rfl, hb.e.1⟩
def f_X1_denyUnless (Ev : rb_E) (h : AH) (n : Nat) (x0 : Int32) (x1 : Int32) (x2 : Int32) : Option ((Unit ⊕ (String × Nat)) × AH × Nat × Nat) := (if x0 = 0 then (ad 1 8 (rb_lt (va_up h n (some (.inr (4, [.null, .null, .null, .null, .null, .int 0, .int 0, .int 0])))) fun h_6 => ((f_X6_init Ev h_6 (n + 1) n x1 x2).bind fun (r_8, h_9, k_10, s_11) => (ad k_10 s_11 ((hp_k Ev h_9 n 4).bind fun u_18 => (some (.inr ("RainbowOperators$Denial", n), h_9, 0, 0))))))) else (some (.inl (), h, 0, 0)))
abbrev rm_X1_denyUnless (k s : Nat) : Room := { frames := 5, cells := k, slots := s, locals := 133 }
set_option maxHeartbeats 4000000 in
theorem ct_X1_denyUnless (Ev : rb_E) (h : AH) (n : Nat) (x0 : Int32) (x1 : Int32) (x2 : Int32) (r : Unit ⊕ (String × Nat)) (h' : AH) (k s : Nat) (hf : f_X1_denyUnless Ev h n x0 x1 x2 = some (r, h', k, s)) : Ct Ev yX1_denyUnless (ws_ yX1_denyUnless cX1_denyUnless 3 none) (rm_X1_denyUnless k s) [.int x0, .int x1, .int x2] h n (pX (rMap (fun _ => none) r) h' (n + k)) := by
  rw [f_X1_denyUnless] at hf
  refine Ct.of rfl (Nat.le_of_ble_eq_true rfl) fun X C hnm => ?_
  have C : Cx Ev X RX1 cX1_denyUnless 3 none [] := C
  show Wa Ev X (rm_X1_denyUnless k s) 3 h n 0 0 (rb_MQ Ev X (rm_X1_denyUnless k s) (pX (rMap (fun _ => none) r) h' (n + k))) 0 [(0, .int x0), (1, .int x1), (2, .int x2)] []
  have hb : Bd (n + k) k s n 0 0 k s := ⟨rfl, Nat.le_of_eq (Nat.zero_add _), Nat.le_of_eq (Nat.zero_add _)⟩
  refine rb_iload_n C dX1_denyUnless_0 rfl 0 rfl ?_
  refine rb_if_ne (tgt := 14) C dX1_denyUnless_1 (by decide) (fun c_1 => ?_) (fun c_1 => ?_)
  · have hf := (if_neg c_1).symm.trans hf
    cases hf
    exact rb_vret C rfl hb.e.2.1 hb.e.2.2 dX1_denyUnless_14 ⟨rfl, rfl, hb.e.1⟩
  · have hf := (if_pos c_1).symm.trans hf
    obtain ⟨a_4, b_5, hf, ea_2, eb_3⟩ := ad_at hf
    refine rb_hnew C ck_X6 q261 q851 q94 [.null, .null, .null, .null, .null, .int 0, .int 0, .int 0] rfl (Bd.c1 hb ea_2) (Bd.s1 hb eb_3) dX1_denyUnless_4 ?_
    have hb := Bd.ade hb ea_2 eb_3
    obtain ⟨h_6, e_h_6⟩ : ∃ z, z = (va_up h n (some (.inr (4, [.null, .null, .null, .null, .null, .int 0, .int 0, .int 0])))) := ⟨_, rfl⟩
    rw [← e_h_6]
    have hf := rb_let hf e_h_6
    refine rb_dup C dX1_denyUnless_7 rfl ?_
    refine rb_iload_n C dX1_denyUnless_8 rfl 1 rfl ?_
    refine rb_iload_n C dX1_denyUnless_9 rfl 2 rfl ?_
    obtain ⟨⟨r_8, h_9, k_10, s_11⟩, e_12, hf⟩ := rb_bd hf
    obtain ⟨a_15, b_16, hf, ea_13, eb_14⟩ := ad_at hf
    refine rb_callI (As := [.int x1, .int x2]) (rest := [.ref n]) C mi_X6_init si_X1_36 (ct_X6_init Ev h_6 (n + 1) n x1 x2 r_8 _ _ _ e_12) rfl rfl (Nat.le_of_ble_eq_true rfl) ⟨Nat.le_of_ble_eq_true rfl, Nat.le_of_ble_eq_true rfl, Bd.c1 hb ea_13, Bd.s1 hb eb_14⟩ dX1_denyUnless_10 rb_xX (rb_kX (rb_w (kc := ((0 + 1) + k_10)) (ks := ((0 + 8) + s_11)) rfl rfl ?_))
    have hb := Bd.ade hb ea_13 eb_14
    obtain ⟨u_18, e_17, hf⟩ := rb_bd hf
    refine rb_hthrow (rest := []) C ck_X6 e_17 dX1_denyUnless_13 ?_
    cases hf
    exact rb_out C (fun _ z => absurd z List.not_mem_nil) hb.e.2.1 hb.e.2.2 ⟨rfl, rfl, hb.e.1⟩
def f_X2_operandCount_j35_19 (Ev : rb_E) (y1_l4_1 : Int32) (y2_l4_1 : Int32) (rec_l4_1 : Int32 → Int32 → Option Int32) (w0_j35_19 : Int32) : Option Int32 := (rec_l4_1 (y1_l4_1 + w0_j35_19) (y2_l4_1 + 1))
def f_X2_operandCount_l4_1 (Ev : rb_E) (o : Nat) (h : AH) : Nat → Int32 → Int32 → Option Int32
  | 0, _, _ => none
  | k_l4_1 + 1, y1_l4_1, y2_l4_1 => ((hp_p Ev h o 1 0).bind fun v_2 => ((hp_k Ev h v_2 13).bind fun u_4 => ((f_J1_length Ev h v_2).bind fun v_7 => (if v_7 ≤ y2_l4_1 then (some y1_l4_1) else ((hp_p Ev h o 1 0).bind fun v_10 => ((hp_k Ev h v_10 13).bind fun u_12 => ((f_J1_charAt Ev h v_10 y2_l4_1).bind fun v_15 => (if (f_X1_isOperand v_15) = 0 then (f_X2_operandCount_j35_19 Ev y1_l4_1 y2_l4_1 (f_X2_operandCount_l4_1 Ev o h k_l4_1) 0) else (f_X2_operandCount_j35_19 Ev y1_l4_1 y2_l4_1 (f_X2_operandCount_l4_1 Ev o h k_l4_1) 1)))))))))
def f_X2_operandCount (Ev : rb_E) (h : AH) (o : Nat) : Option Int32 := (f_X2_operandCount_l4_1 Ev o h 4096 0 0)
abbrev rm_X2_operandCount : Room := { frames := 4, cells := 0, slots := 0, locals := 105 }
set_option maxHeartbeats 4000000 in
theorem ct_X2_operandCount (Ev : rb_E) (h : AH) (n : Nat) (o : Nat) (r : Int32) (hf : f_X2_operandCount Ev h o = some r) : Ct Ev yX2_operandCount (ws_ yX2_operandCount cX2_operandCount 3 (some .int)) (rm_X2_operandCount) [.ref o] h n (pXi .int r h n) := by
  rw [f_X2_operandCount] at hf
  refine Ct.of rfl (Nat.le_of_ble_eq_true rfl) fun X C hnm => ?_
  have C : Cx Ev X RX2 cX2_operandCount 3 (some .int) [] := C
  show Wa Ev X (rm_X2_operandCount) 3 h n 0 0 (rb_MQ Ev X (rm_X2_operandCount) (pXi .int r h n)) 0 [(0, .ref o)] []
  refine rb_iconst (v := 0) C dX2_operandCount_0 rfl ?_
  refine rb_istore_n (lv' := [(1, .int 0), (0, .ref o)]) C dX2_operandCount_1 rfl (by decide) rfl ?_
  refine rb_iconst (v := 0) C dX2_operandCount_2 rfl ?_
  refine rb_istore_n (lv' := [(2, .int 0), (1, .int 0), (0, .ref o)]) C dX2_operandCount_3 rfl (by decide) rfl ?_
  have L_l4_1 : ∀ (k_l4_1 : Nat) (y1_l4_1 : Int32) (y2_l4_1 : Int32), f_X2_operandCount_l4_1 Ev o h k_l4_1 y1_l4_1 y2_l4_1 = some r → Wa Ev X (rm_X2_operandCount) 3 h n 0 0 (rb_MQ Ev X (rm_X2_operandCount) (pXi .int r h n)) 4 [(0, .ref o), (1, .int y1_l4_1), (2, .int y2_l4_1)] [] := by
    intro k_l4_1
    induction k_l4_1 with
    | zero => intro y1_l4_1 y2_l4_1 hf; cases hf
    | succ k_l4_1 ih_l4_1 =>
      intro y1_l4_1 y2_l4_1 hf
      rw [f_X2_operandCount_l4_1] at hf
      refine rb_iload_n C dX2_operandCount_4 rfl 2 rfl ?_
      refine rb_aload_n C dX2_operandCount_5 rfl 0 rfl ?_
      obtain ⟨v_2, e_3, hf⟩ := rb_bd hf
      refine rb_hP C fl_X2_12_X2 e_3 dX2_operandCount_6 ?_
      obtain ⟨u_4, e_5, hf⟩ := rb_bd hf
      obtain ⟨v_7, e_8, hf⟩ := rb_bd hf
      refine rb_callV (As := []) (rest := [.int y2_l4_1]) C mi_J1_length sv_X2_72 (hp_k_isC C.pf e_5 ck_J1) (ct_J1_length Ev h n v_2 _ e_8) rfl rfl (Nat.le_of_ble_eq_true rfl) ⟨Nat.le_of_ble_eq_true rfl, Nat.le_of_ble_eq_true rfl, (Nat.zero_le _), (Nat.zero_le _)⟩ dX2_operandCount_9 rb_xXi (rb_kXi fun hn_6 => (rb_w (kc := 0) (ks := 0) rfl rfl ?_))
      refine rb_icmp_ge (tgt := 43) C dX2_operandCount_12 (by decide) (fun c_9 => ?_) (fun c_9 => ?_)
      · have hf := (if_pos c_9).symm.trans hf
        refine rb_iload_n C dX2_operandCount_43 rfl 1 rfl ?_
        cases hf
        exact rb_iret C rfl rfl (Nat.zero_le _) (Nat.zero_le _) dX2_operandCount_44 ⟨rfl, rfl, rfl, rfl⟩
      · have hf := (if_neg c_9).symm.trans hf
        refine rb_iload_n C dX2_operandCount_15 rfl 1 rfl ?_
        refine rb_aload_n C dX2_operandCount_16 rfl 0 rfl ?_
        obtain ⟨v_10, e_11, hf⟩ := rb_bd hf
        refine rb_hP C fl_X2_12_X2 e_11 dX2_operandCount_17 ?_
        refine rb_iload_n C dX2_operandCount_20 rfl 2 rfl ?_
        obtain ⟨u_12, e_13, hf⟩ := rb_bd hf
        obtain ⟨v_15, e_16, hf⟩ := rb_bd hf
        refine rb_callV (As := [.int y2_l4_1]) (rest := [.int y1_l4_1]) C mi_J1_charAt sv_X2_76 (hp_k_isC C.pf e_13 ck_J1) (ct_J1_charAt Ev h n v_10 y2_l4_1 _ e_16) rfl rfl (Nat.le_of_ble_eq_true rfl) ⟨Nat.le_of_ble_eq_true rfl, Nat.le_of_ble_eq_true rfl, (Nat.zero_le _), (Nat.zero_le _)⟩ dX2_operandCount_21 rb_xXi (rb_kXi fun hn_14 => (rb_w (kc := 0) (ks := 0) rfl rfl ?_))
        refine rb_callSN (As := [.int v_15]) (rest := [.int y1_l4_1]) C mi_X1_isOperand ss_X2_80 (ct_X1_isOperand Ev h n v_15 _ rfl) rfl rfl (Nat.le_of_ble_eq_true rfl) ⟨Nat.le_of_ble_eq_true rfl, Nat.le_of_ble_eq_true rfl, (Nat.zero_le _), (Nat.zero_le _)⟩ dX2_operandCount_24 rb_xXi (rb_kXi fun hn_17 => (rb_w (kc := 0) (ks := 0) rfl rfl ?_))
        have J_j35_19 : ∀ (w0_j35_19 : Int32), f_X2_operandCount_j35_19 Ev y1_l4_1 y2_l4_1 (f_X2_operandCount_l4_1 Ev o h k_l4_1) w0_j35_19 = some r → Wa Ev X (rm_X2_operandCount) 3 h n 0 0 (rb_MQ Ev X (rm_X2_operandCount) (pXi .int r h n)) 35 [(0, .ref o), (1, .int y1_l4_1), (2, .int y2_l4_1)] [.int w0_j35_19, .int y1_l4_1] := by
          intro w0_j35_19 hf
          rw [f_X2_operandCount_j35_19] at hf
          refine rb_iadd C dX2_operandCount_35 ?_
          refine rb_istore_n (lv' := [(1, .int (y1_l4_1 + w0_j35_19)), (0, .ref o), (2, .int y2_l4_1)]) C dX2_operandCount_36 rfl (by decide) rfl ?_
          refine rb_iinc (v := (y2_l4_1 + 1)) (lv' := [(2, .int (y2_l4_1 + 1)), (1, .int (y1_l4_1 + w0_j35_19)), (0, .ref o)]) C dX2_operandCount_37 (k := 2) rfl rfl (by decide) rfl ?_
          refine rb_goto (tgt := 4) C dX2_operandCount_40 (by decide) ?_
          refine rb_sub [2, 1, 0] rfl ?_
          exact ih_l4_1 (y1_l4_1 + w0_j35_19) (y2_l4_1 + 1) hf
        refine rb_if_eq (tgt := 34) C dX2_operandCount_27 (by decide) (fun c_18 => ?_) (fun c_18 => ?_)
        · have hf := (if_pos c_18).symm.trans hf
          refine rb_iconst (v := 0) C dX2_operandCount_34 rfl ?_
          exact J_j35_19 0 hf
        · have hf := (if_neg c_18).symm.trans hf
          refine rb_iconst (v := 1) C dX2_operandCount_30 rfl ?_
          refine rb_goto (tgt := 35) C dX2_operandCount_31 (by decide) ?_
          exact J_j35_19 1 hf
  refine rb_sub [2, 1, 0] rfl ?_
  exact L_l4_1 4096 0 0 hf
def f_J0_append_6_j56_27 (Ev : rb_E) (o : Nat) (x1 : Int32) (h_j56_27 : AH) (n_j56_27 : Nat) : Option (Nat × AH × Nat × Nat) := ((hp_p Ev h_j56_27 o 13 0).bind fun v_28 => ((hp_i Ev h_j56_27 o 13 3).bind fun v_30 => ((hp_put h_j56_27 o 13 3 (.int (v_30 + 1))).bind fun h_32 => ((f_J3_putCharSB Ev h_32 n_j56_27 v_28 v_30 x1).bind fun (r_35, h_36, k_37, s_38) => (ad k_37 s_38 (some (o, h_36, 0, 0)))))))
def f_J0_append_6_j56_64 (Ev : rb_E) (o : Nat) (x1 : Int32) (h_j56_64 : AH) (n_j56_64 : Nat) : Option (Nat × AH × Nat × Nat) := ((hp_p Ev h_j56_64 o 13 0).bind fun v_65 => ((hp_i Ev h_j56_64 o 13 3).bind fun v_67 => ((hp_put h_j56_64 o 13 3 (.int (v_67 + 1))).bind fun h_69 => ((f_J3_putCharSB Ev h_69 n_j56_64 v_65 v_67 x1).bind fun (r_72, h_73, k_74, s_75) => (ad k_74 s_75 (some (o, h_73, 0, 0)))))))
def f_J0_append_6 (Ev : rb_E) (h : AH) (n : Nat) (o : Nat) (x1 : Int32) : Option (Nat × AH × Nat × Nat) := ((hp_i Ev h o 13 3).bind fun v_1 => ((hp_k Ev h o 13).bind fun u_3 => ((f_J0_ensureCapacityInternal Ev h n o (v_1 + 1)).bind fun (r_6, h_7, k_8, s_9) => (ad k_8 s_9 ((hp_k Ev h_7 o 13).bind fun u_15 => ((f_J0_isLatin1 Ev h_7 o).bind fun v_18 => (if v_18 = 0 then ((hp_k Ev h_7 o 13).bind fun u_21 => ((f_J0_isLatin1 Ev h_7 o).bind fun v_24 => (if v_24 = 0 then (f_J0_append_6_j56_27 Ev o x1 h_7 (n + k_8)) else ((hp_k Ev h_7 o 13).bind fun u_44 => ((f_J0_inflate Ev h_7 (n + k_8) o).bind fun (r_47, h_48, k_49, s_50) => (ad k_49 s_50 (f_J0_append_6_j56_27 Ev o x1 h_48 ((n + k_8) + k_49)))))))) else (if (f_J11_canEncode x1) = 0 then ((hp_k Ev h_7 o 13).bind fun u_58 => ((f_J0_isLatin1 Ev h_7 o).bind fun v_61 => (if v_61 = 0 then (f_J0_append_6_j56_64 Ev o x1 h_7 (n + k_8)) else ((hp_k Ev h_7 o 13).bind fun u_81 => ((f_J0_inflate Ev h_7 (n + k_8) o).bind fun (r_84, h_85, k_86, s_87) => (ad k_86 s_87 (f_J0_append_6_j56_64 Ev o x1 h_85 ((n + k_8) + k_86)))))))) else ((hp_p Ev h_7 o 13 0).bind fun v_93 => ((hp_i Ev h_7 o 13 3).bind fun v_95 => ((hp_put h_7 o 13 3 (.int (v_95 + 1))).bind fun h_97 => ((hp_bs Ev h_97 v_93 v_95 x1.toInt8.toInt32).bind fun h_99 => (some (o, h_99, 0, 0))))))))))))))
abbrev rm_J0_append_6 (k s : Nat) : Room := { frames := 6, cells := k, slots := s, locals := 137 }
set_option maxHeartbeats 4000000 in
theorem ct_J0_append_6 (Ev : rb_E) (h : AH) (n : Nat) (o : Nat) (x1 : Int32) (r : Nat) (h' : AH) (k s : Nat) (hf : f_J0_append_6 Ev h n o x1 = some (r, h', k, s)) : Ct Ev yJ0_append_6 (ws_ yJ0_append_6 cJ0_append_6 2 (some (.object "java/lang/AbstractStringBuilder"))) (rm_J0_append_6 k s) [.ref o, .int x1] h n (pX (.inl (some (.ref r))) h' (n + k)) := by
  rw [f_J0_append_6] at hf
  refine Ct.of rfl (Nat.le_of_ble_eq_true rfl) fun X C hnm => ?_
  have C : Cx Ev X RJ0 cJ0_append_6 2 (some (.object "java/lang/AbstractStringBuilder")) [] := C
  show Wa Ev X (rm_J0_append_6 k s) 2 h n 0 0 (rb_MQ Ev X (rm_J0_append_6 k s) (pX (.inl (some (.ref r))) h' (n + k))) 0 [(0, .ref o), (1, .int x1)] []
  have hb : Bd (n + k) k s n 0 0 k s := ⟨rfl, Nat.le_of_eq (Nat.zero_add _), Nat.le_of_eq (Nat.zero_add _)⟩
  refine rb_aload_n C dJ0_append_6_0 rfl 0 rfl ?_
  refine rb_aload_n C dJ0_append_6_1 rfl 0 rfl ?_
  obtain ⟨v_1, e_2, hf⟩ := rb_bd hf
  refine rb_hI C fl_J0_79_J1 e_2 dJ0_append_6_2 ?_
  refine rb_iconst (v := 1) C dJ0_append_6_5 rfl ?_
  refine rb_iadd C dJ0_append_6_6 ?_
  obtain ⟨u_3, e_4, hf⟩ := rb_bd hf
  obtain ⟨⟨r_6, h_7, k_8, s_9⟩, e_10, hf⟩ := rb_bd hf
  obtain ⟨a_13, b_14, hf, ea_11, eb_12⟩ := ad_at hf
  refine rb_callVP (As := [.int (v_1 + 1)]) (rest := []) C mi_J0_ensureCapacityInternal sp_J0_100 (hp_k_isC C.pf e_4 ck_J1) (ct_J0_ensureCapacityInternal Ev h n o (v_1 + 1) r_6 _ _ _ e_10) rfl rfl (Nat.le_of_ble_eq_true rfl) ⟨Nat.le_of_ble_eq_true rfl, Nat.le_of_ble_eq_true rfl, Bd.c1 hb ea_11, Bd.s1 hb eb_12⟩ dJ0_append_6_7 rb_xX (rb_kX (rb_w (kc := (0 + k_8)) (ks := (0 + s_9)) rfl rfl ?_))
  have hb := Bd.ade hb ea_11 eb_12
  refine rb_aload_n C dJ0_append_6_10 rfl 0 rfl ?_
  obtain ⟨u_15, e_16, hf⟩ := rb_bd hf
  obtain ⟨v_18, e_19, hf⟩ := rb_bd hf
  refine rb_callU (As := []) (rest := []) C mi_J0_isLatin1 su_J0_83_J1 (hp_k_isC C.pf e_16 ck_J1) (ct_J0_isLatin1 Ev h_7 (n + k_8) o _ e_19) rfl rfl (Nat.le_of_ble_eq_true rfl) ⟨Nat.le_of_ble_eq_true rfl, Nat.le_of_ble_eq_true rfl, hb.c0, hb.s0⟩ dJ0_append_6_11 rb_xXi (rb_kXi fun hn_17 => (rb_w (kc := (0 + k_8)) (ks := (0 + s_9)) rfl rfl ?_))
  refine rb_if_eq (tgt := 45) C dJ0_append_6_14 (by decide) (fun c_20 => ?_) (fun c_20 => ?_)
  · have hf := (if_pos c_20).symm.trans hf
    refine rb_aload_n C dJ0_append_6_45 rfl 0 rfl ?_
    obtain ⟨u_21, e_22, hf⟩ := rb_bd hf
    obtain ⟨v_24, e_25, hf⟩ := rb_bd hf
    refine rb_callU (As := []) (rest := []) C mi_J0_isLatin1 su_J0_83_J1 (hp_k_isC C.pf e_22 ck_J1) (ct_J0_isLatin1 Ev h_7 (n + k_8) o _ e_25) rfl rfl (Nat.le_of_ble_eq_true rfl) ⟨Nat.le_of_ble_eq_true rfl, Nat.le_of_ble_eq_true rfl, hb.c0, hb.s0⟩ dJ0_append_6_46 rb_xXi (rb_kXi fun hn_23 => (rb_w (kc := (0 + k_8)) (ks := (0 + s_9)) rfl rfl ?_))
    have J_j56_27 : ∀ (h_j56_27 : AH) (n_j56_27 : Nat) (kc_j56_27 ks_j56_27 a_ b_ : Nat), f_J0_append_6_j56_27 Ev o x1 h_j56_27 n_j56_27 = some (r, h', a_, b_) → Bd (n + k) k s n_j56_27 kc_j56_27 ks_j56_27 a_ b_ → Wa Ev X (rm_J0_append_6 k s) 2 h_j56_27 n_j56_27 kc_j56_27 ks_j56_27 (rb_MQ Ev X (rm_J0_append_6 k s) (pX (.inl (some (.ref r))) h' (n + k))) 56 [(0, .ref o), (1, .int x1)] [] := by
      intro h_j56_27 n_j56_27 kc_j56_27 ks_j56_27 a_ b_ hf hb
      rw [f_J0_append_6_j56_27] at hf
      refine rb_aload_n C dJ0_append_6_56 rfl 0 rfl ?_
      obtain ⟨v_28, e_29, hf⟩ := rb_bd hf
      refine rb_hP C fl_J0_15_J1 e_29 dJ0_append_6_57 ?_
      refine rb_aload_n C dJ0_append_6_60 rfl 0 rfl ?_
      refine rb_dup C dJ0_append_6_61 rfl ?_
      obtain ⟨v_30, e_31, hf⟩ := rb_bd hf
      refine rb_hI C fl_J0_79_J1 e_31 dJ0_append_6_62 ?_
      refine rb_dup_x1 C dJ0_append_6_65 rfl rfl ?_
      refine rb_iconst (v := 1) C dJ0_append_6_66 rfl ?_
      refine rb_iadd C dJ0_append_6_67 ?_
      obtain ⟨h_32, e_33, hf⟩ := rb_bd hf
      refine rb_hput C fw_J0_79_J1 e_33 rfl rfl dJ0_append_6_68 ?_
      refine rb_iload_n C dJ0_append_6_71 rfl 1 rfl ?_
      obtain ⟨⟨r_35, h_36, k_37, s_38⟩, e_39, hf⟩ := rb_bd hf
      obtain ⟨a_42, b_43, hf, ea_40, eb_41⟩ := ad_at hf
      refine rb_callS (As := [.ref v_28, .int v_30, .int x1]) (rest := []) C mi_J3_putCharSB ss_J0_197 (ct_J3_putCharSB Ev h_32 n_j56_27 v_28 v_30 x1 r_35 _ _ _ e_39) rfl rfl (Nat.le_of_ble_eq_true rfl) ⟨Nat.le_of_ble_eq_true rfl, Nat.le_of_ble_eq_true rfl, Bd.c1 hb ea_40, Bd.s1 hb eb_41⟩ dJ0_append_6_72 rb_xX (rb_kX (rb_w (kc := (kc_j56_27 + k_37)) (ks := (ks_j56_27 + s_38)) rfl rfl ?_))
      have hb := Bd.ade hb ea_40 eb_41
      refine rb_aload_n C dJ0_append_6_75 rfl 0 rfl ?_
      cases hf
      exact rb_aret C rfl (Or.inl ⟨_, rfl⟩) (Or.inr ⟨_, rfl⟩) hb.e.2.1 hb.e.2.2 dJ0_append_6_76 ⟨rfl, rfl, hb.e.1⟩
    refine rb_if_eq (tgt := 56) C dJ0_append_6_49 (by decide) (fun c_26 => ?_) (fun c_26 => ?_)
    · have hf := (if_pos c_26).symm.trans hf
      exact J_j56_27 h_7 (n + k_8)  _ _ _ _ hf hb
    · have hf := (if_neg c_26).symm.trans hf
      refine rb_aload_n C dJ0_append_6_52 rfl 0 rfl ?_
      obtain ⟨u_44, e_45, hf⟩ := rb_bd hf
      obtain ⟨⟨r_47, h_48, k_49, s_50⟩, e_51, hf⟩ := rb_bd hf
      obtain ⟨a_54, b_55, hf, ea_52, eb_53⟩ := ad_at hf
      refine rb_callVP (As := []) (rest := []) C mi_J0_inflate sp_J0_195 (hp_k_isC C.pf e_45 ck_J1) (ct_J0_inflate Ev h_7 (n + k_8) o r_47 _ _ _ e_51) rfl rfl (Nat.le_of_ble_eq_true rfl) ⟨Nat.le_of_ble_eq_true rfl, Nat.le_of_ble_eq_true rfl, Bd.c1 hb ea_52, Bd.s1 hb eb_53⟩ dJ0_append_6_53 rb_xX (rb_kX (rb_w (kc := ((0 + k_8) + k_49)) (ks := ((0 + s_9) + s_50)) rfl rfl ?_))
      have hb := Bd.ade hb ea_52 eb_53
      exact J_j56_27 h_48 ((n + k_8) + k_49)  _ _ _ _ hf hb
  · have hf := (if_neg c_20).symm.trans hf
    refine rb_iload_n C dJ0_append_6_17 rfl 1 rfl ?_
    refine rb_callS (As := [.int x1]) (rest := []) C mi_J11_canEncode ss_J0_191 (ct_J11_canEncode Ev h_7 (n + k_8) x1 _ rfl) rfl rfl (Nat.le_of_ble_eq_true rfl) ⟨Nat.le_of_ble_eq_true rfl, Nat.le_of_ble_eq_true rfl, hb.c0, hb.s0⟩ dJ0_append_6_18 rb_xXi (rb_kXi fun hn_56 => (rb_w (kc := (0 + k_8)) (ks := (0 + s_9)) rfl rfl ?_))
    refine rb_if_eq (tgt := 45) C dJ0_append_6_21 (by decide) (fun c_57 => ?_) (fun c_57 => ?_)
    · have hf := (if_pos c_57).symm.trans hf
      refine rb_aload_n C dJ0_append_6_45 rfl 0 rfl ?_
      obtain ⟨u_58, e_59, hf⟩ := rb_bd hf
      obtain ⟨v_61, e_62, hf⟩ := rb_bd hf
      refine rb_callU (As := []) (rest := []) C mi_J0_isLatin1 su_J0_83_J1 (hp_k_isC C.pf e_59 ck_J1) (ct_J0_isLatin1 Ev h_7 (n + k_8) o _ e_62) rfl rfl (Nat.le_of_ble_eq_true rfl) ⟨Nat.le_of_ble_eq_true rfl, Nat.le_of_ble_eq_true rfl, hb.c0, hb.s0⟩ dJ0_append_6_46 rb_xXi (rb_kXi fun hn_60 => (rb_w (kc := (0 + k_8)) (ks := (0 + s_9)) rfl rfl ?_))
      have J_j56_64 : ∀ (h_j56_64 : AH) (n_j56_64 : Nat) (kc_j56_64 ks_j56_64 a_ b_ : Nat), f_J0_append_6_j56_64 Ev o x1 h_j56_64 n_j56_64 = some (r, h', a_, b_) → Bd (n + k) k s n_j56_64 kc_j56_64 ks_j56_64 a_ b_ → Wa Ev X (rm_J0_append_6 k s) 2 h_j56_64 n_j56_64 kc_j56_64 ks_j56_64 (rb_MQ Ev X (rm_J0_append_6 k s) (pX (.inl (some (.ref r))) h' (n + k))) 56 [(0, .ref o), (1, .int x1)] [] := by
        intro h_j56_64 n_j56_64 kc_j56_64 ks_j56_64 a_ b_ hf hb
        rw [f_J0_append_6_j56_64] at hf
        refine rb_aload_n C dJ0_append_6_56 rfl 0 rfl ?_
        obtain ⟨v_65, e_66, hf⟩ := rb_bd hf
        refine rb_hP C fl_J0_15_J1 e_66 dJ0_append_6_57 ?_
        refine rb_aload_n C dJ0_append_6_60 rfl 0 rfl ?_
        refine rb_dup C dJ0_append_6_61 rfl ?_
        obtain ⟨v_67, e_68, hf⟩ := rb_bd hf
        refine rb_hI C fl_J0_79_J1 e_68 dJ0_append_6_62 ?_
        refine rb_dup_x1 C dJ0_append_6_65 rfl rfl ?_
        refine rb_iconst (v := 1) C dJ0_append_6_66 rfl ?_
        refine rb_iadd C dJ0_append_6_67 ?_
        obtain ⟨h_69, e_70, hf⟩ := rb_bd hf
        refine rb_hput C fw_J0_79_J1 e_70 rfl rfl dJ0_append_6_68 ?_
        refine rb_iload_n C dJ0_append_6_71 rfl 1 rfl ?_
        obtain ⟨⟨r_72, h_73, k_74, s_75⟩, e_76, hf⟩ := rb_bd hf
        obtain ⟨a_79, b_80, hf, ea_77, eb_78⟩ := ad_at hf
        refine rb_callS (As := [.ref v_65, .int v_67, .int x1]) (rest := []) C mi_J3_putCharSB ss_J0_197 (ct_J3_putCharSB Ev h_69 n_j56_64 v_65 v_67 x1 r_72 _ _ _ e_76) rfl rfl (Nat.le_of_ble_eq_true rfl) ⟨Nat.le_of_ble_eq_true rfl, Nat.le_of_ble_eq_true rfl, Bd.c1 hb ea_77, Bd.s1 hb eb_78⟩ dJ0_append_6_72 rb_xX (rb_kX (rb_w (kc := (kc_j56_64 + k_74)) (ks := (ks_j56_64 + s_75)) rfl rfl ?_))
        have hb := Bd.ade hb ea_77 eb_78
        refine rb_aload_n C dJ0_append_6_75 rfl 0 rfl ?_
        cases hf
        exact rb_aret C rfl (Or.inl ⟨_, rfl⟩) (Or.inr ⟨_, rfl⟩) hb.e.2.1 hb.e.2.2 dJ0_append_6_76 ⟨rfl, rfl, hb.e.1⟩
      refine rb_if_eq (tgt := 56) C dJ0_append_6_49 (by decide) (fun c_63 => ?_) (fun c_63 => ?_)
      · have hf := (if_pos c_63).symm.trans hf
        exact J_j56_64 h_7 (n + k_8)  _ _ _ _ hf hb
      · have hf := (if_neg c_63).symm.trans hf
        refine rb_aload_n C dJ0_append_6_52 rfl 0 rfl ?_
        obtain ⟨u_81, e_82, hf⟩ := rb_bd hf
        obtain ⟨⟨r_84, h_85, k_86, s_87⟩, e_88, hf⟩ := rb_bd hf
        obtain ⟨a_91, b_92, hf, ea_89, eb_90⟩ := ad_at hf
        refine rb_callVP (As := []) (rest := []) C mi_J0_inflate sp_J0_195 (hp_k_isC C.pf e_82 ck_J1) (ct_J0_inflate Ev h_7 (n + k_8) o r_84 _ _ _ e_88) rfl rfl (Nat.le_of_ble_eq_true rfl) ⟨Nat.le_of_ble_eq_true rfl, Nat.le_of_ble_eq_true rfl, Bd.c1 hb ea_89, Bd.s1 hb eb_90⟩ dJ0_append_6_53 rb_xX (rb_kX (rb_w (kc := ((0 + k_8) + k_86)) (ks := ((0 + s_9) + s_87)) rfl rfl ?_))
        have hb := Bd.ade hb ea_89 eb_90
        exact J_j56_64 h_85 ((n + k_8) + k_86)  _ _ _ _ hf hb
    · have hf := (if_neg c_57).symm.trans hf
      refine rb_aload_n C dJ0_append_6_24 rfl 0 rfl ?_
      obtain ⟨v_93, e_94, hf⟩ := rb_bd hf
      refine rb_hP C fl_J0_15_J1 e_94 dJ0_append_6_25 ?_
      refine rb_aload_n C dJ0_append_6_28 rfl 0 rfl ?_
      refine rb_dup C dJ0_append_6_29 rfl ?_
      obtain ⟨v_95, e_96, hf⟩ := rb_bd hf
      refine rb_hI C fl_J0_79_J1 e_96 dJ0_append_6_30 ?_
      refine rb_dup_x1 C dJ0_append_6_33 rfl rfl ?_
      refine rb_iconst (v := 1) C dJ0_append_6_34 rfl ?_
      refine rb_iadd C dJ0_append_6_35 ?_
      obtain ⟨h_97, e_98, hf⟩ := rb_bd hf
      refine rb_hput C fw_J0_79_J1 e_98 rfl rfl dJ0_append_6_36 ?_
      refine rb_iload_n C dJ0_append_6_39 rfl 1 rfl ?_
      refine rb_i2b (v := x1.toInt8.toInt32) C dJ0_append_6_40 rfl ?_
      obtain ⟨h_99, e_100, hf⟩ := rb_bd hf
      refine rb_hbs C e_100 dJ0_append_6_41 ?_
      refine rb_goto (tgt := 75) C dJ0_append_6_42 (by decide) ?_
      refine rb_aload_n C dJ0_append_6_75 rfl 0 rfl ?_
      cases hf
      exact rb_aret C rfl (Or.inl ⟨_, rfl⟩) (Or.inr ⟨_, rfl⟩) hb.e.2.1 hb.e.2.2 dJ0_append_6_76 ⟨rfl, rfl, hb.e.1⟩
def f_J1_append_7 (Ev : rb_E) (h : AH) (n : Nat) (o : Nat) (x1 : Int32) : Option (Nat × AH × Nat × Nat) := ((hp_k Ev h o 13).bind fun u_1 => ((f_J0_append_6 Ev h n o x1).bind fun (r_4, h_5, k_6, s_7) => (ad k_6 s_7 (some (o, h_5, 0, 0)))))
abbrev rm_J1_append_7 (k s : Nat) : Room := { frames := 7, cells := k, slots := s, locals := 158 }
set_option maxHeartbeats 4000000 in
theorem ct_J1_append_7 (Ev : rb_E) (h : AH) (n : Nat) (o : Nat) (x1 : Int32) (r : Nat) (h' : AH) (k s : Nat) (hf : f_J1_append_7 Ev h n o x1 = some (r, h', k, s)) : Ct Ev yJ1_append_7 (ws_ yJ1_append_7 cJ1_append_7 2 (some (.object "java/lang/StringBuilder"))) (rm_J1_append_7 k s) [.ref o, .int x1] h n (pX (.inl (some (.ref r))) h' (n + k)) := by
  rw [f_J1_append_7] at hf
  refine Ct.of rfl (Nat.le_of_ble_eq_true rfl) fun X C hnm => ?_
  have C : Cx Ev X RJ1 cJ1_append_7 2 (some (.object "java/lang/StringBuilder")) [] := C
  show Wa Ev X (rm_J1_append_7 k s) 2 h n 0 0 (rb_MQ Ev X (rm_J1_append_7 k s) (pX (.inl (some (.ref r))) h' (n + k))) 0 [(0, .ref o), (1, .int x1)] []
  have hb : Bd (n + k) k s n 0 0 k s := ⟨rfl, Nat.le_of_eq (Nat.zero_add _), Nat.le_of_eq (Nat.zero_add _)⟩
  refine rb_aload_n C dJ1_append_7_0 rfl 0 rfl ?_
  refine rb_iload_n C dJ1_append_7_1 rfl 1 rfl ?_
  obtain ⟨u_1, e_2, hf⟩ := rb_bd hf
  obtain ⟨⟨r_4, h_5, k_6, s_7⟩, e_8, hf⟩ := rb_bd hf
  obtain ⟨a_11, b_12, hf, ea_9, eb_10⟩ := ad_at hf
  refine rb_callSU (As := [.int x1]) (rest := []) C mi_J0_append_6 sx_J1_50 ck_J1 (hp_k_isC C.pf e_2 ck_J1) (ct_J0_append_6 Ev h n o x1 r_4 _ _ _ e_8) rfl rfl (Nat.le_of_ble_eq_true rfl) ⟨Nat.le_of_ble_eq_true rfl, Nat.le_of_ble_eq_true rfl, Bd.c1 hb ea_9, Bd.s1 hb eb_10⟩ dJ1_append_7_2 rb_xX (rb_kX (rb_w (kc := (0 + k_6)) (ks := (0 + s_7)) rfl rfl ?_))
  have hb := Bd.ade hb ea_9 eb_10
  refine rb_pop C dJ1_append_7_5 rfl ?_
  refine rb_aload_n C dJ1_append_7_6 rfl 0 rfl ?_
  cases hf
  exact rb_aret C rfl (Or.inl ⟨_, rfl⟩) (Or.inr ⟨_, rfl⟩) hb.e.2.1 hb.e.2.2 dJ1_append_7_7 ⟨rfl, rfl, hb.e.1⟩
def f_X2_put_j80_41 (Ev : rb_E) (o : Nat) (x1 : Int32) (n : Nat) (k_7 : Nat) (h_28 : AH) (k_29 : Nat) (w0_j80_41 : Int32) : Option ((Int32 ⊕ (String × Nat)) × AH × Nat × Nat) := ((f_X1_denyUnless Ev h_28 ((n + k_7) + k_29) w0_j80_41 1 8).bind fun (r_43, h_44, k_45, s_46) => (ad k_45 s_46 (match r_43 with | .inl v_52 => ((hp_p Ev h_44 o 1 0).bind fun v_55 => ((hp_k Ev h_44 v_55 13).bind fun u_57 => ((f_J1_append_7 Ev h_44 (((n + k_7) + k_29) + k_45) v_55 x1).bind fun (r_60, h_61, k_62, s_63) => (ad k_62 s_63 ((hp_p Ev h_61 o 1 0).bind fun v_69 => ((hp_k Ev h_61 v_69 13).bind fun u_71 => ((f_J1_length Ev h_61 v_69).bind fun v_74 => (some (.inl v_74, h_61, 0, 0))))))))) | .inr (E_53, q_54) => (if E_53 = "RainbowOperators$Denial" then (some (.inr ("RainbowOperators$Denial", q_54), h_44, 0, 0)) else none))))
def f_X2_put_j53_25 (Ev : rb_E) (o : Nat) (x1 : Int32) (n : Nat) (h_6 : AH) (k_7 : Nat) (w0_j53_25 : Int32) : Option ((Int32 ⊕ (String × Nat)) × AH × Nat × Nat) := ((f_X1_denyUnless Ev h_6 (n + k_7) w0_j53_25 1 24).bind fun (r_27, h_28, k_29, s_30) => (ad k_29 s_30 (match r_27 with | .inl v_36 => (if (f_X1_isOperand x1) = 0 then (f_X2_put_j80_41 Ev o x1 n k_7 h_28 k_29 1) else ((hp_k Ev h_28 o 1).bind fun u_77 => ((f_X2_operandCount Ev h_28 o).bind fun v_80 => (if 8 ≤ v_80 then (f_X2_put_j80_41 Ev o x1 n k_7 h_28 k_29 0) else (f_X2_put_j80_41 Ev o x1 n k_7 h_28 k_29 1))))) | .inr (E_37, q_38) => (if E_37 = "RainbowOperators$Denial" then (some (.inr ("RainbowOperators$Denial", q_38), h_28, 0, 0)) else none))))
def f_X2_put_j33_3 (Ev : rb_E) (o : Nat) (x1 : Int32) (h : AH) (n : Nat) (w0_j33_3 : Int32) : Option ((Int32 ⊕ (String × Nat)) × AH × Nat × Nat) := ((f_X1_requireArgument Ev h n w0_j33_3).bind fun (r_5, h_6, k_7, s_8) => (ad k_7 s_8 (match r_5 with | .inl v_14 => ((hp_p Ev h_6 o 1 0).bind fun v_17 => ((hp_k Ev h_6 v_17 13).bind fun u_19 => ((f_J1_length Ev h_6 v_17).bind fun v_22 => (if 24 ≤ v_22 then (f_X2_put_j53_25 Ev o x1 n h_6 k_7 0) else (f_X2_put_j53_25 Ev o x1 n h_6 k_7 1))))) | .inr (E_15, q_16) => (if E_15 = "java/lang/IllegalArgumentException" then (some (.inr ("java/lang/IllegalArgumentException", q_16), h_6, 0, 0)) else none))))
def f_X2_put (Ev : rb_E) (h : AH) (n : Nat) (o : Nat) (x1 : Int32) : Option ((Int32 ⊕ (String × Nat)) × AH × Nat × Nat) := (if (f_X1_isOperand x1) = 0 then ((hp_k Ev h (eS Ev RX2 64) 14).bind fun u_85 => ((f_J2_indexOf Ev h (eS Ev RX2 64) x1).bind fun v_88 => (if 0 ≤ v_88 then (f_X2_put_j33_3 Ev o x1 h n 1) else (if x1 = 40 then (f_X2_put_j33_3 Ev o x1 h n 1) else (if x1 = 41 then (f_X2_put_j33_3 Ev o x1 h n 1) else (f_X2_put_j33_3 Ev o x1 h n 0)))))) else (f_X2_put_j33_3 Ev o x1 h n 1))
abbrev rm_X2_put (k s : Nat) : Room := { frames := 8, cells := k, slots := s, locals := 179 }
set_option maxHeartbeats 4000000 in
theorem ct_X2_put (Ev : rb_E) (h : AH) (n : Nat) (o : Nat) (x1 : Int32) (r : Int32 ⊕ (String × Nat)) (h' : AH) (k s : Nat) (hf : f_X2_put Ev h n o x1 = some (r, h', k, s)) : Ct Ev yX2_put (ws_ yX2_put cX2_put 2 (some .int)) (rm_X2_put k s) [.ref o, .int x1] h n (pX (rMap (fun v => some (.int v)) r) h' (n + k)) := by
  rw [f_X2_put] at hf
  refine Ct.of rfl (Nat.le_of_ble_eq_true rfl) fun X C hnm => ?_
  have C : Cx Ev X RX2 cX2_put 2 (some .int) [] := C
  show Wa Ev X (rm_X2_put k s) 2 h n 0 0 (rb_MQ Ev X (rm_X2_put k s) (pX (rMap (fun v => some (.int v)) r) h' (n + k))) 0 [(0, .ref o), (1, .int x1)] []
  have hb : Bd (n + k) k s n 0 0 k s := ⟨rfl, Nat.le_of_eq (Nat.zero_add _), Nat.le_of_eq (Nat.zero_add _)⟩
  refine rb_iload_n C dX2_put_0 rfl 1 rfl ?_
  refine rb_callSN (As := [.int x1]) (rest := []) C mi_X1_isOperand ss_X2_80 (ct_X1_isOperand Ev h n x1 _ rfl) rfl rfl (Nat.le_of_ble_eq_true rfl) ⟨Nat.le_of_ble_eq_true rfl, Nat.le_of_ble_eq_true rfl, hb.c0, hb.s0⟩ dX2_put_1 rb_xXi (rb_kXi fun hn_1 => (rb_w (kc := 0) (ks := 0) rfl rfl ?_))
  have J_j33_3 : ∀ (w0_j33_3 : Int32) (kc_j33_3 ks_j33_3 a_ b_ : Nat), f_X2_put_j33_3 Ev o x1 h n w0_j33_3 = some (r, h', a_, b_) → Bd (n + k) k s n kc_j33_3 ks_j33_3 a_ b_ → Wa Ev X (rm_X2_put k s) 2 h n kc_j33_3 ks_j33_3 (rb_MQ Ev X (rm_X2_put k s) (pX (rMap (fun v => some (.int v)) r) h' (n + k))) 33 [(0, .ref o), (1, .int x1)] [.int w0_j33_3] := by
    intro w0_j33_3 kc_j33_3 ks_j33_3 a_ b_ hf hb
    rw [f_X2_put_j33_3] at hf
    obtain ⟨⟨r_5, h_6, k_7, s_8⟩, e_9, hf⟩ := rb_bd hf
    obtain ⟨a_12, b_13, hf, ea_10, eb_11⟩ := ad_at hf
    rcases r_5 with v_14 | ⟨E_15, q_16⟩
    · dsimp only at hf
      refine rb_callSN (As := [.int w0_j33_3]) (rest := []) C mi_X1_requireArgument ss_X2_162 (ct_X1_requireArgument Ev h n w0_j33_3 (.inl v_14) _ _ _ e_9) rfl rfl (Nat.le_of_ble_eq_true rfl) ⟨Nat.le_of_ble_eq_true rfl, Nat.le_of_ble_eq_true rfl, Bd.c1 hb ea_10, Bd.s1 hb eb_11⟩ dX2_put_33 rb_xX (rb_kX (r := none) (rb_w (kc := (kc_j33_3 + k_7)) (ks := (ks_j33_3 + s_8)) rfl rfl ?_))
      have hb := Bd.ade hb ea_10 eb_11
      refine rb_aload_n C dX2_put_36 rfl 0 rfl ?_
      obtain ⟨v_17, e_18, hf⟩ := rb_bd hf
      refine rb_hP C fl_X2_12_X2 e_18 dX2_put_37 ?_
      obtain ⟨u_19, e_20, hf⟩ := rb_bd hf
      obtain ⟨v_22, e_23, hf⟩ := rb_bd hf
      refine rb_callV (As := []) (rest := []) C mi_J1_length sv_X2_72 (hp_k_isC C.pf e_20 ck_J1) (ct_J1_length Ev h_6 (n + k_7) v_17 _ e_23) rfl rfl (Nat.le_of_ble_eq_true rfl) ⟨Nat.le_of_ble_eq_true rfl, Nat.le_of_ble_eq_true rfl, hb.c0, hb.s0⟩ dX2_put_40 rb_xXi (rb_kXi fun hn_21 => (rb_w (kc := (kc_j33_3 + k_7)) (ks := (ks_j33_3 + s_8)) rfl rfl ?_))
      refine rb_bipush (v := 24) C dX2_put_43 rfl ?_
      have J_j53_25 : ∀ (w0_j53_25 : Int32) (kc_j53_25 ks_j53_25 a_ b_ : Nat), f_X2_put_j53_25 Ev o x1 n h_6 k_7 w0_j53_25 = some (r, h', a_, b_) → Bd (n + k) k s (n + k_7) kc_j53_25 ks_j53_25 a_ b_ → Wa Ev X (rm_X2_put k s) 2 h_6 (n + k_7) kc_j53_25 ks_j53_25 (rb_MQ Ev X (rm_X2_put k s) (pX (rMap (fun v => some (.int v)) r) h' (n + k))) 53 [(0, .ref o), (1, .int x1)] [.int w0_j53_25] := by
        intro w0_j53_25 kc_j53_25 ks_j53_25 a_ b_ hf hb
        rw [f_X2_put_j53_25] at hf
        refine rb_iconst (v := 1) C dX2_put_53 rfl ?_
        refine rb_bipush (v := 24) C dX2_put_54 rfl ?_
        obtain ⟨⟨r_27, h_28, k_29, s_30⟩, e_31, hf⟩ := rb_bd hf
        obtain ⟨a_34, b_35, hf, ea_32, eb_33⟩ := ad_at hf
        rcases r_27 with v_36 | ⟨E_37, q_38⟩
        · dsimp only at hf
          refine rb_callSN (As := [.int w0_j53_25, .int 1, .int 24]) (rest := []) C mi_X1_denyUnless ss_X2_137 (ct_X1_denyUnless Ev h_6 (n + k_7) w0_j53_25 1 24 (.inl v_36) _ _ _ e_31) rfl rfl (Nat.le_of_ble_eq_true rfl) ⟨Nat.le_of_ble_eq_true rfl, Nat.le_of_ble_eq_true rfl, Bd.c1 hb ea_32, Bd.s1 hb eb_33⟩ dX2_put_56 rb_xX (rb_kX (r := none) (rb_w (kc := (kc_j53_25 + k_29)) (ks := (ks_j53_25 + s_30)) rfl rfl ?_))
          have hb := Bd.ade hb ea_32 eb_33
          refine rb_iload_n C dX2_put_59 rfl 1 rfl ?_
          refine rb_callSN (As := [.int x1]) (rest := []) C mi_X1_isOperand ss_X2_80 (ct_X1_isOperand Ev h_28 ((n + k_7) + k_29) x1 _ rfl) rfl rfl (Nat.le_of_ble_eq_true rfl) ⟨Nat.le_of_ble_eq_true rfl, Nat.le_of_ble_eq_true rfl, hb.c0, hb.s0⟩ dX2_put_60 rb_xXi (rb_kXi fun hn_39 => (rb_w (kc := (kc_j53_25 + k_29)) (ks := (ks_j53_25 + s_30)) rfl rfl ?_))
          have J_j80_41 : ∀ (w0_j80_41 : Int32) (kc_j80_41 ks_j80_41 a_ b_ : Nat), f_X2_put_j80_41 Ev o x1 n k_7 h_28 k_29 w0_j80_41 = some (r, h', a_, b_) → Bd (n + k) k s ((n + k_7) + k_29) kc_j80_41 ks_j80_41 a_ b_ → Wa Ev X (rm_X2_put k s) 2 h_28 ((n + k_7) + k_29) kc_j80_41 ks_j80_41 (rb_MQ Ev X (rm_X2_put k s) (pX (rMap (fun v => some (.int v)) r) h' (n + k))) 80 [(0, .ref o), (1, .int x1)] [.int w0_j80_41] := by
            intro w0_j80_41 kc_j80_41 ks_j80_41 a_ b_ hf hb
            rw [f_X2_put_j80_41] at hf
            refine rb_iconst (v := 1) C dX2_put_80 rfl ?_
            refine rb_bipush (v := 8) C dX2_put_81 rfl ?_
            obtain ⟨⟨r_43, h_44, k_45, s_46⟩, e_47, hf⟩ := rb_bd hf
            obtain ⟨a_50, b_51, hf, ea_48, eb_49⟩ := ad_at hf
            rcases r_43 with v_52 | ⟨E_53, q_54⟩
            · dsimp only at hf
              refine rb_callSN (As := [.int w0_j80_41, .int 1, .int 8]) (rest := []) C mi_X1_denyUnless ss_X2_137 (ct_X1_denyUnless Ev h_28 ((n + k_7) + k_29) w0_j80_41 1 8 (.inl v_52) _ _ _ e_47) rfl rfl (Nat.le_of_ble_eq_true rfl) ⟨Nat.le_of_ble_eq_true rfl, Nat.le_of_ble_eq_true rfl, Bd.c1 hb ea_48, Bd.s1 hb eb_49⟩ dX2_put_83 rb_xX (rb_kX (r := none) (rb_w (kc := (kc_j80_41 + k_45)) (ks := (ks_j80_41 + s_46)) rfl rfl ?_))
              have hb := Bd.ade hb ea_48 eb_49
              refine rb_aload_n C dX2_put_86 rfl 0 rfl ?_
              obtain ⟨v_55, e_56, hf⟩ := rb_bd hf
              refine rb_hP C fl_X2_12_X2 e_56 dX2_put_87 ?_
              refine rb_iload_n C dX2_put_90 rfl 1 rfl ?_
              obtain ⟨u_57, e_58, hf⟩ := rb_bd hf
              obtain ⟨⟨r_60, h_61, k_62, s_63⟩, e_64, hf⟩ := rb_bd hf
              obtain ⟨a_67, b_68, hf, ea_65, eb_66⟩ := ad_at hf
              refine rb_callV (As := [.int x1]) (rest := []) C mi_J1_append_7 sv_X2_169 (hp_k_isC C.pf e_58 ck_J1) (ct_J1_append_7 Ev h_44 (((n + k_7) + k_29) + k_45) v_55 x1 r_60 _ _ _ e_64) rfl rfl (Nat.le_of_ble_eq_true rfl) ⟨Nat.le_of_ble_eq_true rfl, Nat.le_of_ble_eq_true rfl, Bd.c1 hb ea_65, Bd.s1 hb eb_66⟩ dX2_put_91 rb_xX (rb_kX (rb_w (kc := ((kc_j80_41 + k_45) + k_62)) (ks := ((ks_j80_41 + s_46) + s_63)) rfl rfl ?_))
              have hb := Bd.ade hb ea_65 eb_66
              refine rb_pop C dX2_put_94 rfl ?_
              refine rb_aload_n C dX2_put_95 rfl 0 rfl ?_
              obtain ⟨v_69, e_70, hf⟩ := rb_bd hf
              refine rb_hP C fl_X2_12_X2 e_70 dX2_put_96 ?_
              obtain ⟨u_71, e_72, hf⟩ := rb_bd hf
              obtain ⟨v_74, e_75, hf⟩ := rb_bd hf
              refine rb_callV (As := []) (rest := []) C mi_J1_length sv_X2_72 (hp_k_isC C.pf e_72 ck_J1) (ct_J1_length Ev h_61 ((((n + k_7) + k_29) + k_45) + k_62) v_69 _ e_75) rfl rfl (Nat.le_of_ble_eq_true rfl) ⟨Nat.le_of_ble_eq_true rfl, Nat.le_of_ble_eq_true rfl, hb.c0, hb.s0⟩ dX2_put_99 rb_xXi (rb_kXi fun hn_73 => (rb_w (kc := ((kc_j80_41 + k_45) + k_62)) (ks := ((ks_j80_41 + s_46) + s_63)) rfl rfl ?_))
              cases hf
              exact rb_iret C rfl rfl hb.e.2.1 hb.e.2.2 dX2_put_102 ⟨rfl, rfl, hb.e.1⟩
            · dsimp only at hf
              by_cases c_76 : E_53 = "RainbowOperators$Denial"
              · have hf := (if_pos c_76).symm.trans hf
                subst c_76
                refine rb_callSN (As := [.int w0_j80_41, .int 1, .int 8]) (rest := []) C mi_X1_denyUnless ss_X2_137 (ct_X1_denyUnless Ev h_28 ((n + k_7) + k_29) w0_j80_41 1 8 (.inr ("RainbowOperators$Denial", q_54)) _ _ _ e_47) rfl rfl (Nat.le_of_ble_eq_true rfl) ⟨Nat.le_of_ble_eq_true rfl, Nat.le_of_ble_eq_true rfl, Bd.c1 hb ea_48, Bd.s1 hb eb_49⟩ dX2_put_83 (rb_xY (E := "RainbowOperators$Denial") (rb_wX (kc := (kc_j80_41 + k_45)) (ks := (ks_j80_41 + s_46)) rfl rfl ?_)) rb_kY
                have hb := Bd.ade hb ea_48 eb_49
                cases hf
                exact rb_out C (fun _ z => absurd z List.not_mem_nil) hb.e.2.1 hb.e.2.2 ⟨rfl, rfl, hb.e.1⟩
              have hf := (if_neg c_76).symm.trans hf
              cases hf
          refine rb_if_eq (tgt := 75) C dX2_put_63 (by decide) (fun c_40 => ?_) (fun c_40 => ?_)
          · have hf := (if_pos c_40).symm.trans hf
            refine rb_iconst (v := 1) C dX2_put_75 rfl ?_
            refine rb_goto (tgt := 80) C dX2_put_76 (by decide) ?_
            exact J_j80_41 1  _ _ _ _ hf hb
          · have hf := (if_neg c_40).symm.trans hf
            refine rb_aload_n C dX2_put_66 rfl 0 rfl ?_
            obtain ⟨u_77, e_78, hf⟩ := rb_bd hf
            obtain ⟨v_80, e_81, hf⟩ := rb_bd hf
            refine rb_callV (As := []) (rest := []) C mi_X2_operandCount sv_X2_166 (hp_k_isC C.pf e_78 ck_X2) (ct_X2_operandCount Ev h_28 ((n + k_7) + k_29) o _ e_81) rfl rfl (Nat.le_of_ble_eq_true rfl) ⟨Nat.le_of_ble_eq_true rfl, Nat.le_of_ble_eq_true rfl, hb.c0, hb.s0⟩ dX2_put_67 rb_xXi (rb_kXi fun hn_79 => (rb_w (kc := (kc_j53_25 + k_29)) (ks := (ks_j53_25 + s_30)) rfl rfl ?_))
            refine rb_bipush (v := 8) C dX2_put_70 rfl ?_
            refine rb_icmp_ge (tgt := 79) C dX2_put_72 (by decide) (fun c_82 => ?_) (fun c_82 => ?_)
            · have hf := (if_pos c_82).symm.trans hf
              refine rb_iconst (v := 0) C dX2_put_79 rfl ?_
              exact J_j80_41 0  _ _ _ _ hf hb
            · have hf := (if_neg c_82).symm.trans hf
              refine rb_iconst (v := 1) C dX2_put_75 rfl ?_
              refine rb_goto (tgt := 80) C dX2_put_76 (by decide) ?_
              exact J_j80_41 1  _ _ _ _ hf hb
        · dsimp only at hf
          by_cases c_83 : E_37 = "RainbowOperators$Denial"
          · have hf := (if_pos c_83).symm.trans hf
            subst c_83
            refine rb_callSN (As := [.int w0_j53_25, .int 1, .int 24]) (rest := []) C mi_X1_denyUnless ss_X2_137 (ct_X1_denyUnless Ev h_6 (n + k_7) w0_j53_25 1 24 (.inr ("RainbowOperators$Denial", q_38)) _ _ _ e_31) rfl rfl (Nat.le_of_ble_eq_true rfl) ⟨Nat.le_of_ble_eq_true rfl, Nat.le_of_ble_eq_true rfl, Bd.c1 hb ea_32, Bd.s1 hb eb_33⟩ dX2_put_56 (rb_xY (E := "RainbowOperators$Denial") (rb_wX (kc := (kc_j53_25 + k_29)) (ks := (ks_j53_25 + s_30)) rfl rfl ?_)) rb_kY
            have hb := Bd.ade hb ea_32 eb_33
            cases hf
            exact rb_out C (fun _ z => absurd z List.not_mem_nil) hb.e.2.1 hb.e.2.2 ⟨rfl, rfl, hb.e.1⟩
          have hf := (if_neg c_83).symm.trans hf
          cases hf
      refine rb_icmp_ge (tgt := 52) C dX2_put_45 (by decide) (fun c_24 => ?_) (fun c_24 => ?_)
      · have hf := (if_pos c_24).symm.trans hf
        refine rb_iconst (v := 0) C dX2_put_52 rfl ?_
        exact J_j53_25 0  _ _ _ _ hf hb
      · have hf := (if_neg c_24).symm.trans hf
        refine rb_iconst (v := 1) C dX2_put_48 rfl ?_
        refine rb_goto (tgt := 53) C dX2_put_49 (by decide) ?_
        exact J_j53_25 1  _ _ _ _ hf hb
    · dsimp only at hf
      by_cases c_84 : E_15 = "java/lang/IllegalArgumentException"
      · have hf := (if_pos c_84).symm.trans hf
        subst c_84
        refine rb_callSN (As := [.int w0_j33_3]) (rest := []) C mi_X1_requireArgument ss_X2_162 (ct_X1_requireArgument Ev h n w0_j33_3 (.inr ("java/lang/IllegalArgumentException", q_16)) _ _ _ e_9) rfl rfl (Nat.le_of_ble_eq_true rfl) ⟨Nat.le_of_ble_eq_true rfl, Nat.le_of_ble_eq_true rfl, Bd.c1 hb ea_10, Bd.s1 hb eb_11⟩ dX2_put_33 (rb_xY (E := "java/lang/IllegalArgumentException") (rb_wX (kc := (kc_j33_3 + k_7)) (ks := (ks_j33_3 + s_8)) rfl rfl ?_)) rb_kY
        have hb := Bd.ade hb ea_10 eb_11
        cases hf
        exact rb_out C (fun _ z => absurd z List.not_mem_nil) hb.e.2.1 hb.e.2.2 ⟨rfl, rfl, hb.e.1⟩
      have hf := (if_neg c_84).symm.trans hf
      cases hf
  refine rb_if_ne (tgt := 28) C dX2_put_4 (by decide) (fun c_2 => ?_) (fun c_2 => ?_)
  · have hf := (if_neg c_2).symm.trans hf
    refine rb_iconst (v := 1) C dX2_put_28 rfl ?_
    refine rb_goto (tgt := 33) C dX2_put_29 (by decide) ?_
    exact J_j33_3 1  _ _ _ _ hf hb
  · have hf := (if_pos c_2).symm.trans hf
    refine rb_ldcS C q786 dX2_put_7 ?_
    refine rb_iload_n C dX2_put_9 rfl 1 rfl ?_
    obtain ⟨u_85, e_86, hf⟩ := rb_bd hf
    obtain ⟨v_88, e_89, hf⟩ := rb_bd hf
    refine rb_callV (As := [.int x1]) (rest := []) C mi_J2_indexOf sv_X2_157 (hp_k_isC C.pf e_86 ck_J2) (ct_J2_indexOf Ev h n (eS Ev RX2 64) x1 _ e_89) rfl rfl (Nat.le_of_ble_eq_true rfl) ⟨Nat.le_of_ble_eq_true rfl, Nat.le_of_ble_eq_true rfl, hb.c0, hb.s0⟩ dX2_put_10 rb_xXi (rb_kXi fun hn_87 => (rb_w (kc := 0) (ks := 0) rfl rfl ?_))
    refine rb_if_ge (tgt := 28) C dX2_put_13 (by decide) (fun c_90 => ?_) (fun c_90 => ?_)
    · have hf := (if_pos c_90).symm.trans hf
      refine rb_iconst (v := 1) C dX2_put_28 rfl ?_
      refine rb_goto (tgt := 33) C dX2_put_29 (by decide) ?_
      exact J_j33_3 1  _ _ _ _ hf hb
    · have hf := (if_neg c_90).symm.trans hf
      refine rb_iload_n C dX2_put_16 rfl 1 rfl ?_
      refine rb_bipush (v := 40) C dX2_put_17 rfl ?_
      refine rb_icmp_eq (tgt := 28) C dX2_put_19 (by decide) (fun c_91 => ?_) (fun c_91 => ?_)
      · have hf := (if_pos c_91).symm.trans hf
        refine rb_iconst (v := 1) C dX2_put_28 rfl ?_
        refine rb_goto (tgt := 33) C dX2_put_29 (by decide) ?_
        exact J_j33_3 1  _ _ _ _ hf hb
      · have hf := (if_neg c_91).symm.trans hf
        refine rb_iload_n C dX2_put_22 rfl 1 rfl ?_
        refine rb_bipush (v := 41) C dX2_put_23 rfl ?_
        refine rb_icmp_ne (tgt := 32) C dX2_put_25 (by decide) (fun c_92 => ?_) (fun c_92 => ?_)
        · have hf := (if_neg c_92).symm.trans hf
          refine rb_iconst (v := 0) C dX2_put_32 rfl ?_
          exact J_j33_3 0  _ _ _ _ hf hb
        · have hf := (if_pos c_92).symm.trans hf
          refine rb_iconst (v := 1) C dX2_put_28 rfl ?_
          refine rb_goto (tgt := 33) C dX2_put_29 (by decide) ?_
          exact J_j33_3 1  _ _ _ _ hf hb
def f_X2_putAll_l2_1 (Ev : rb_E) (o : Nat) (x1 : Nat) : Nat → Int32 → AH → Nat → Option ((Int32 ⊕ (String × Nat)) × AH × Nat × Nat)
  | 0, _, _, _ => none
  | k_l2_1 + 1, y2_l2_1, h_l2_1, n_l2_1 => ((hp_k Ev h_l2_1 x1 14).bind fun u_2 => ((f_J2_length Ev h_l2_1 x1).bind fun v_5 => (if v_5 ≤ y2_l2_1 then ((hp_p Ev h_l2_1 o 1 0).bind fun v_8 => ((hp_k Ev h_l2_1 v_8 13).bind fun u_10 => ((f_J1_length Ev h_l2_1 v_8).bind fun v_13 => (some (.inl v_13, h_l2_1, 0, 0))))) else ((hp_k Ev h_l2_1 x1 14).bind fun u_15 => ((f_J2_charAt Ev h_l2_1 x1 y2_l2_1).bind fun v_18 => ((hp_k Ev h_l2_1 o 1).bind fun u_20 => ((f_X2_put Ev h_l2_1 n_l2_1 o v_18).bind fun (r_23, h_24, k_25, s_26) => (ad k_25 s_26 (match r_23 with | .inl v_32 => ((f_X2_putAll_l2_1 Ev o x1 k_l2_1) (y2_l2_1 + 1) h_24 (n_l2_1 + k_25)) | .inr (E_33, q_34) => (if E_33 = "RainbowOperators$Denial" then (some (.inr ("RainbowOperators$Denial", q_34), h_24, 0, 0)) else (if E_33 = "java/lang/IllegalArgumentException" then (some (.inr ("java/lang/IllegalArgumentException", q_34), h_24, 0, 0)) else none)))))))))))
def f_X2_putAll (Ev : rb_E) (h : AH) (n : Nat) (o : Nat) (x1 : Nat) : Option ((Int32 ⊕ (String × Nat)) × AH × Nat × Nat) := (f_X2_putAll_l2_1 Ev o x1 4096 0 h n)
abbrev rm_X2_putAll (k s : Nat) : Room := { frames := 9, cells := k, slots := s, locals := 200 }
set_option maxHeartbeats 4000000 in
theorem ct_X2_putAll (Ev : rb_E) (h : AH) (n : Nat) (o : Nat) (x1 : Nat) (r : Int32 ⊕ (String × Nat)) (h' : AH) (k s : Nat) (hf : f_X2_putAll Ev h n o x1 = some (r, h', k, s)) : Ct Ev yX2_putAll (ws_ yX2_putAll cX2_putAll 4 (some .int)) (rm_X2_putAll k s) [.ref o, .ref x1] h n (pX (rMap (fun v => some (.int v)) r) h' (n + k)) := by
  rw [f_X2_putAll] at hf
  refine Ct.of rfl (Nat.le_of_ble_eq_true rfl) fun X C hnm => ?_
  have C : Cx Ev X RX2 cX2_putAll 4 (some .int) [] := C
  show Wa Ev X (rm_X2_putAll k s) 4 h n 0 0 (rb_MQ Ev X (rm_X2_putAll k s) (pX (rMap (fun v => some (.int v)) r) h' (n + k))) 0 [(0, .ref o), (1, .ref x1)] []
  have hb : Bd (n + k) k s n 0 0 k s := ⟨rfl, Nat.le_of_eq (Nat.zero_add _), Nat.le_of_eq (Nat.zero_add _)⟩
  refine rb_iconst (v := 0) C dX2_putAll_0 rfl ?_
  refine rb_istore_n (lv' := [(2, .int 0), (0, .ref o), (1, .ref x1)]) C dX2_putAll_1 rfl (by decide) rfl ?_
  have L_l2_1 : ∀ (k_l2_1 : Nat) (y2_l2_1 : Int32) (h_l2_1 : AH) (n_l2_1 kc_l2_1 ks_l2_1 a_ b_ : Nat), f_X2_putAll_l2_1 Ev o x1 k_l2_1 y2_l2_1 h_l2_1 n_l2_1 = some (r, h', a_, b_) → Bd (n + k) k s n_l2_1 kc_l2_1 ks_l2_1 a_ b_ → Wa Ev X (rm_X2_putAll k s) 4 h_l2_1 n_l2_1 kc_l2_1 ks_l2_1 (rb_MQ Ev X (rm_X2_putAll k s) (pX (rMap (fun v => some (.int v)) r) h' (n + k))) 2 [(0, .ref o), (1, .ref x1), (2, .int y2_l2_1)] [] := by
    intro k_l2_1
    induction k_l2_1 with
    | zero => intro y2_l2_1 h_l2_1 n_l2_1 kc_l2_1 ks_l2_1 a_ b_ hf hb; cases hf
    | succ k_l2_1 ih_l2_1 =>
      intro y2_l2_1 h_l2_1 n_l2_1 kc_l2_1 ks_l2_1 a_ b_ hf hb
      rw [f_X2_putAll_l2_1] at hf
      refine rb_iload_n C dX2_putAll_2 rfl 2 rfl ?_
      refine rb_aload_n C dX2_putAll_3 rfl 1 rfl ?_
      obtain ⟨u_2, e_3, hf⟩ := rb_bd hf
      obtain ⟨v_5, e_6, hf⟩ := rb_bd hf
      refine rb_callV (As := []) (rest := [.int y2_l2_1]) C mi_J2_length sv_X2_172 (hp_k_isC C.pf e_3 ck_J2) (ct_J2_length Ev h_l2_1 n_l2_1 x1 _ e_6) rfl rfl (Nat.le_of_ble_eq_true rfl) ⟨Nat.le_of_ble_eq_true rfl, Nat.le_of_ble_eq_true rfl, hb.c0, hb.s0⟩ dX2_putAll_4 rb_xXi (rb_kXi fun hn_4 => (rb_w (kc := kc_l2_1) (ks := ks_l2_1) rfl rfl ?_))
      refine rb_icmp_ge (tgt := 26) C dX2_putAll_7 (by decide) (fun c_7 => ?_) (fun c_7 => ?_)
      · have hf := (if_pos c_7).symm.trans hf
        refine rb_aload_n C dX2_putAll_26 rfl 0 rfl ?_
        obtain ⟨v_8, e_9, hf⟩ := rb_bd hf
        refine rb_hP C fl_X2_12_X2 e_9 dX2_putAll_27 ?_
        obtain ⟨u_10, e_11, hf⟩ := rb_bd hf
        obtain ⟨v_13, e_14, hf⟩ := rb_bd hf
        refine rb_callV (As := []) (rest := []) C mi_J1_length sv_X2_72 (hp_k_isC C.pf e_11 ck_J1) (ct_J1_length Ev h_l2_1 n_l2_1 v_8 _ e_14) rfl rfl (Nat.le_of_ble_eq_true rfl) ⟨Nat.le_of_ble_eq_true rfl, Nat.le_of_ble_eq_true rfl, hb.c0, hb.s0⟩ dX2_putAll_30 rb_xXi (rb_kXi fun hn_12 => (rb_w (kc := kc_l2_1) (ks := ks_l2_1) rfl rfl ?_))
        cases hf
        exact rb_iret C rfl rfl hb.e.2.1 hb.e.2.2 dX2_putAll_33 ⟨rfl, rfl, hb.e.1⟩
      · have hf := (if_neg c_7).symm.trans hf
        refine rb_aload_n C dX2_putAll_10 rfl 0 rfl ?_
        refine rb_aload_n C dX2_putAll_11 rfl 1 rfl ?_
        refine rb_iload_n C dX2_putAll_12 rfl 2 rfl ?_
        obtain ⟨u_15, e_16, hf⟩ := rb_bd hf
        obtain ⟨v_18, e_19, hf⟩ := rb_bd hf
        refine rb_callV (As := [.int y2_l2_1]) (rest := [.ref o]) C mi_J2_charAt sv_X2_173 (hp_k_isC C.pf e_16 ck_J2) (ct_J2_charAt Ev h_l2_1 n_l2_1 x1 y2_l2_1 _ e_19) rfl rfl (Nat.le_of_ble_eq_true rfl) ⟨Nat.le_of_ble_eq_true rfl, Nat.le_of_ble_eq_true rfl, hb.c0, hb.s0⟩ dX2_putAll_13 rb_xXi (rb_kXi fun hn_17 => (rb_w (kc := kc_l2_1) (ks := ks_l2_1) rfl rfl ?_))
        obtain ⟨u_20, e_21, hf⟩ := rb_bd hf
        obtain ⟨⟨r_23, h_24, k_25, s_26⟩, e_27, hf⟩ := rb_bd hf
        obtain ⟨a_30, b_31, hf, ea_28, eb_29⟩ := ad_at hf
        rcases r_23 with v_32 | ⟨E_33, q_34⟩
        · dsimp only at hf
          refine rb_callV (As := [.int v_18]) (rest := []) C mi_X2_put sv_X2_174 (hp_k_isC C.pf e_21 ck_X2) (ct_X2_put Ev h_l2_1 n_l2_1 o v_18 (.inl v_32) _ _ _ e_27) rfl rfl (Nat.le_of_ble_eq_true rfl) ⟨Nat.le_of_ble_eq_true rfl, Nat.le_of_ble_eq_true rfl, Bd.c1 hb ea_28, Bd.s1 hb eb_29⟩ dX2_putAll_16 rb_xX (rb_kX (r := some (.int v_32)) (rb_w (kc := (kc_l2_1 + k_25)) (ks := (ks_l2_1 + s_26)) rfl rfl ?_))
          have hb := Bd.ade hb ea_28 eb_29
          refine rb_istore_n (lv' := [(3, .int v_32), (0, .ref o), (1, .ref x1), (2, .int y2_l2_1)]) C dX2_putAll_19 rfl (by decide) rfl ?_
          refine rb_iinc (v := (y2_l2_1 + 1)) (lv' := [(2, .int (y2_l2_1 + 1)), (3, .int v_32), (0, .ref o), (1, .ref x1)]) C dX2_putAll_20 (k := 3) rfl rfl (by decide) rfl ?_
          refine rb_goto (tgt := 2) C dX2_putAll_23 (by decide) ?_
          refine rb_sub [2, 3, 0] rfl ?_
          exact ih_l2_1 (y2_l2_1 + 1) h_24 (n_l2_1 + k_25) _ _ _ _ hf hb
        · dsimp only at hf
          by_cases c_35 : E_33 = "RainbowOperators$Denial"
          · have hf := (if_pos c_35).symm.trans hf
            subst c_35
            refine rb_callV (As := [.int v_18]) (rest := []) C mi_X2_put sv_X2_174 (hp_k_isC C.pf e_21 ck_X2) (ct_X2_put Ev h_l2_1 n_l2_1 o v_18 (.inr ("RainbowOperators$Denial", q_34)) _ _ _ e_27) rfl rfl (Nat.le_of_ble_eq_true rfl) ⟨Nat.le_of_ble_eq_true rfl, Nat.le_of_ble_eq_true rfl, Bd.c1 hb ea_28, Bd.s1 hb eb_29⟩ dX2_putAll_16 (rb_xY (E := "RainbowOperators$Denial") (rb_wX (kc := (kc_l2_1 + k_25)) (ks := (ks_l2_1 + s_26)) rfl rfl ?_)) rb_kY
            have hb := Bd.ade hb ea_28 eb_29
            cases hf
            exact rb_out C (fun _ z => absurd z List.not_mem_nil) hb.e.2.1 hb.e.2.2 ⟨rfl, rfl, hb.e.1⟩
          have hf := (if_neg c_35).symm.trans hf
          by_cases c_36 : E_33 = "java/lang/IllegalArgumentException"
          · have hf := (if_pos c_36).symm.trans hf
            subst c_36
            refine rb_callV (As := [.int v_18]) (rest := []) C mi_X2_put sv_X2_174 (hp_k_isC C.pf e_21 ck_X2) (ct_X2_put Ev h_l2_1 n_l2_1 o v_18 (.inr ("java/lang/IllegalArgumentException", q_34)) _ _ _ e_27) rfl rfl (Nat.le_of_ble_eq_true rfl) ⟨Nat.le_of_ble_eq_true rfl, Nat.le_of_ble_eq_true rfl, Bd.c1 hb ea_28, Bd.s1 hb eb_29⟩ dX2_putAll_16 (rb_xY (E := "java/lang/IllegalArgumentException") (rb_wX (kc := (kc_l2_1 + k_25)) (ks := (ks_l2_1 + s_26)) rfl rfl ?_)) rb_kY
            have hb := Bd.ade hb ea_28 eb_29
            cases hf
            exact rb_out C (fun _ z => absurd z List.not_mem_nil) hb.e.2.1 hb.e.2.2 ⟨rfl, rfl, hb.e.1⟩
          have hf := (if_neg c_36).symm.trans hf
          cases hf
  refine rb_sub [1, 2, 0] rfl ?_
  exact L_l2_1 4096 0 h n _ _ _ _ hf hb
def f_J9_rangeCheck (Ev : rb_E) (h : AH) (x0 : Int32) (x1 : Int32) (x2 : Int32) : Option Unit := (if x1 ≤ x2 then (if 0 ≤ x1 then (if x2 ≤ x0 then (some ()) else none) else none) else none)
abbrev rm_J9_rangeCheck : Room := { frames := 0, cells := 0, slots := 0, locals := 0 }
set_option maxHeartbeats 4000000 in
theorem ct_J9_rangeCheck (Ev : rb_E) (h : AH) (n : Nat) (x0 : Int32) (x1 : Int32) (x2 : Int32) (r : Unit) (hf : f_J9_rangeCheck Ev h x0 x1 x2 = some r) : Ct Ev yJ9_rangeCheck (ws_ yJ9_rangeCheck cJ9_rangeCheck 3 none) (rm_J9_rangeCheck) [.int x0, .int x1, .int x2] h n (pX (.inl (none)) h n) := by
  rw [f_J9_rangeCheck] at hf
  refine Ct.of rfl (Nat.le_of_ble_eq_true rfl) fun X C hnm => ?_
  have C : Cx Ev X RJ9 cJ9_rangeCheck 3 none [] := C
  show Wa Ev X (rm_J9_rangeCheck) 3 h n 0 0 (rb_MQ Ev X (rm_J9_rangeCheck) (pX (.inl (none)) h n)) 0 [(0, .int x0), (1, .int x1), (2, .int x2)] []
  refine rb_iload_n C dJ9_rangeCheck_0 rfl 1 rfl ?_
  refine rb_iload_n C dJ9_rangeCheck_1 rfl 2 rfl ?_
  refine rb_icmp_le (tgt := 46) C dJ9_rangeCheck_2 (by decide) (fun c_1 => ?_) (fun c_1 => ?_)
  · have hf := (if_pos c_1).symm.trans hf
    refine rb_iload_n C dJ9_rangeCheck_46 rfl 1 rfl ?_
    refine rb_if_ge (tgt := 59) C dJ9_rangeCheck_47 (by decide) (fun c_2 => ?_) (fun c_2 => ?_)
    · have hf := (if_pos c_2).symm.trans hf
      refine rb_iload_n C dJ9_rangeCheck_59 rfl 2 rfl ?_
      refine rb_iload_n C dJ9_rangeCheck_60 rfl 0 rfl ?_
      refine rb_icmp_le (tgt := 73) C dJ9_rangeCheck_61 (by decide) (fun c_3 => ?_) (fun c_3 => ?_)
      · have hf := (if_pos c_3).symm.trans hf
        cases hf
        exact rb_vret C rfl (Nat.zero_le _) (Nat.zero_le _) dJ9_rangeCheck_73 ⟨rfl, rfl, rfl⟩
      · have hf := (if_neg c_3).symm.trans hf
        cases hf
    · have hf := (if_neg c_2).symm.trans hf
      cases hf
  · have hf := (if_neg c_1).symm.trans hf
    cases hf
def f_J9_fill_l10_6 (Ev : rb_E) (x0 : Nat) (x2 : Int32) (x3 : Int32) : Nat → Int32 → AH → Nat → Option (Unit × AH × Nat × Nat)
  | 0, _, _, _ => none
  | k_l10_6 + 1, y4_l10_6, h_l10_6, n_l10_6 => (if x2 ≤ y4_l10_6 then (some ((), h_l10_6, 0, 0)) else ((hp_bs Ev h_l10_6 x0 y4_l10_6 x3).bind fun h_8 => ((f_J9_fill_l10_6 Ev x0 x2 x3 k_l10_6) (y4_l10_6 + 1) h_8 n_l10_6)))
def f_J9_fill (Ev : rb_E) (h : AH) (n : Nat) (x0 : Nat) (x1 : Int32) (x2 : Int32) (x3 : Int32) : Option (Unit × AH × Nat × Nat) := ((hp_len Ev h x0 1).bind fun v_1 => ((f_J9_rangeCheck Ev h (nI v_1) x1 x2).bind fun v_4 => (f_J9_fill_l10_6 Ev x0 x2 x3 4096 x1 h n)))
abbrev rm_J9_fill (k s : Nat) : Room := { frames := 1, cells := k, slots := s, locals := 22 }
set_option maxHeartbeats 4000000 in
theorem ct_J9_fill (Ev : rb_E) (h : AH) (n : Nat) (x0 : Nat) (x1 : Int32) (x2 : Int32) (x3 : Int32) (r : Unit) (h' : AH) (k s : Nat) (hf : f_J9_fill Ev h n x0 x1 x2 x3 = some (r, h', k, s)) : Ct Ev yJ9_fill (ws_ yJ9_fill cJ9_fill 5 none) (rm_J9_fill k s) [.ref x0, .int x1, .int x2, .int x3] h n (pX (.inl (none)) h' (n + k)) := by
  rw [f_J9_fill] at hf
  refine Ct.of rfl (Nat.le_of_ble_eq_true rfl) fun X C hnm => ?_
  have C : Cx Ev X RJ9 cJ9_fill 5 none [] := C
  show Wa Ev X (rm_J9_fill k s) 5 h n 0 0 (rb_MQ Ev X (rm_J9_fill k s) (pX (.inl (none)) h' (n + k))) 0 [(0, .ref x0), (1, .int x1), (2, .int x2), (3, .int x3)] []
  have hb : Bd (n + k) k s n 0 0 k s := ⟨rfl, Nat.le_of_eq (Nat.zero_add _), Nat.le_of_eq (Nat.zero_add _)⟩
  refine rb_aload_n C dJ9_fill_0 rfl 0 rfl ?_
  obtain ⟨v_1, e_2, hf⟩ := rb_bd hf
  refine rb_hlen (t := 1) C rfl e_2 dJ9_fill_1 ?_
  refine rb_iload_n C dJ9_fill_2 rfl 1 rfl ?_
  refine rb_iload_n C dJ9_fill_3 rfl 2 rfl ?_
  obtain ⟨v_4, e_5, hf⟩ := rb_bd hf
  refine rb_callS (As := [.int (nI v_1), .int x1, .int x2]) (rest := []) C mi_J9_rangeCheck ss_J9_13 (ct_J9_rangeCheck Ev h n (nI v_1) x1 x2 _ e_5) rfl rfl (Nat.le_of_ble_eq_true rfl) ⟨Nat.le_of_ble_eq_true rfl, Nat.le_of_ble_eq_true rfl, hb.c0, hb.s0⟩ dJ9_fill_4 rb_xX (rb_kX (rb_w (kc := 0) (ks := 0) rfl rfl ?_))
  refine rb_iload_n C dJ9_fill_7 rfl 1 rfl ?_
  refine rb_istore (lv' := [(4, .int x1), (0, .ref x0), (1, .int x1), (2, .int x2), (3, .int x3)]) C dJ9_fill_8 (by decide) rfl ?_
  have L_l10_6 : ∀ (k_l10_6 : Nat) (y4_l10_6 : Int32) (h_l10_6 : AH) (n_l10_6 kc_l10_6 ks_l10_6 a_ b_ : Nat), f_J9_fill_l10_6 Ev x0 x2 x3 k_l10_6 y4_l10_6 h_l10_6 n_l10_6 = some (r, h', a_, b_) → Bd (n + k) k s n_l10_6 kc_l10_6 ks_l10_6 a_ b_ → Wa Ev X (rm_J9_fill k s) 5 h_l10_6 n_l10_6 kc_l10_6 ks_l10_6 (rb_MQ Ev X (rm_J9_fill k s) (pX (.inl (none)) h' (n + k))) 10 [(0, .ref x0), (1, .int x1), (2, .int x2), (3, .int x3), (4, .int y4_l10_6)] [] := by
    intro k_l10_6
    induction k_l10_6 with
    | zero => intro y4_l10_6 h_l10_6 n_l10_6 kc_l10_6 ks_l10_6 a_ b_ hf hb; cases hf
    | succ k_l10_6 ih_l10_6 =>
      intro y4_l10_6 h_l10_6 n_l10_6 kc_l10_6 ks_l10_6 a_ b_ hf hb
      rw [f_J9_fill_l10_6] at hf
      refine rb_iload C dJ9_fill_10 4 rfl ?_
      refine rb_iload_n C dJ9_fill_12 rfl 2 rfl ?_
      refine rb_icmp_ge (tgt := 27) C dJ9_fill_13 (by decide) (fun c_7 => ?_) (fun c_7 => ?_)
      · have hf := (if_pos c_7).symm.trans hf
        cases hf
        exact rb_vret C rfl hb.e.2.1 hb.e.2.2 dJ9_fill_27 ⟨rfl, rfl, hb.e.1⟩
      · have hf := (if_neg c_7).symm.trans hf
        refine rb_aload_n C dJ9_fill_16 rfl 0 rfl ?_
        refine rb_iload C dJ9_fill_17 4 rfl ?_
        refine rb_iload_n C dJ9_fill_19 rfl 3 rfl ?_
        obtain ⟨h_8, e_9, hf⟩ := rb_bd hf
        refine rb_hbs C e_9 dJ9_fill_20 ?_
        refine rb_iinc (v := (y4_l10_6 + 1)) (lv' := [(4, .int (y4_l10_6 + 1)), (0, .ref x0), (1, .int x1), (2, .int x2), (3, .int x3)]) C dJ9_fill_21 (k := 4) rfl rfl (by decide) rfl ?_
        refine rb_goto (tgt := 10) C dJ9_fill_24 (by decide) ?_
        refine rb_sub [1, 2, 3, 4, 0] rfl ?_
        exact ih_l10_6 (y4_l10_6 + 1) h_8 n_l10_6 _ _ _ _ hf hb
  refine rb_sub [1, 2, 3, 4, 0] rfl ?_
  exact L_l10_6 4096 x1 h n _ _ _ _ hf hb
def f_J3_fillNull (Ev : rb_E) (h : AH) (n : Nat) (x0 : Nat) (x1 : Int32) (x2 : Int32) : Option (Unit × AH × Nat × Nat) := ((f_J9_fill Ev h n x0 (x1 <<< (1 &&& 31)) (x2 <<< (1 &&& 31)) 0).bind fun (r_2, h_3, k_4, s_5) => (ad k_4 s_5 (some ((), h_3, 0, 0))))
abbrev rm_J3_fillNull (k s : Nat) : Room := { frames := 2, cells := k, slots := s, locals := 46 }
set_option maxHeartbeats 4000000 in
theorem ct_J3_fillNull (Ev : rb_E) (h : AH) (n : Nat) (x0 : Nat) (x1 : Int32) (x2 : Int32) (r : Unit) (h' : AH) (k s : Nat) (hf : f_J3_fillNull Ev h n x0 x1 x2 = some (r, h', k, s)) : Ct Ev yJ3_fillNull (ws_ yJ3_fillNull cJ3_fillNull 3 none) (rm_J3_fillNull k s) [.ref x0, .int x1, .int x2] h n (pX (.inl (none)) h' (n + k)) := by
  rw [f_J3_fillNull] at hf
  refine Ct.of rfl (Nat.le_of_ble_eq_true rfl) fun X C hnm => ?_
  have C : Cx Ev X RJ3 cJ3_fillNull 3 none [] := C
  show Wa Ev X (rm_J3_fillNull k s) 3 h n 0 0 (rb_MQ Ev X (rm_J3_fillNull k s) (pX (.inl (none)) h' (n + k))) 0 [(0, .ref x0), (1, .int x1), (2, .int x2)] []
  have hb : Bd (n + k) k s n 0 0 k s := ⟨rfl, Nat.le_of_eq (Nat.zero_add _), Nat.le_of_eq (Nat.zero_add _)⟩
  refine rb_aload_n C dJ3_fillNull_0 rfl 0 rfl ?_
  refine rb_iload_n C dJ3_fillNull_1 rfl 1 rfl ?_
  refine rb_iconst (v := 1) C dJ3_fillNull_2 rfl ?_
  refine rb_ishl C dJ3_fillNull_3 ?_
  refine rb_iload_n C dJ3_fillNull_4 rfl 2 rfl ?_
  refine rb_iconst (v := 1) C dJ3_fillNull_5 rfl ?_
  refine rb_ishl C dJ3_fillNull_6 ?_
  refine rb_iconst (v := 0) C dJ3_fillNull_7 rfl ?_
  obtain ⟨⟨r_2, h_3, k_4, s_5⟩, e_6, hf⟩ := rb_bd hf
  obtain ⟨a_9, b_10, hf, ea_7, eb_8⟩ := ad_at hf
  refine rb_callS (As := [.ref x0, .int (x1 <<< (1 &&& 31)), .int (x2 <<< (1 &&& 31)), .int 0]) (rest := []) C mi_J9_fill ss_J3_380 (ct_J9_fill Ev h n x0 (x1 <<< (1 &&& 31)) (x2 <<< (1 &&& 31)) 0 r_2 _ _ _ e_6) rfl rfl (Nat.le_of_ble_eq_true rfl) ⟨Nat.le_of_ble_eq_true rfl, Nat.le_of_ble_eq_true rfl, Bd.c1 hb ea_7, Bd.s1 hb eb_8⟩ dJ3_fillNull_8 rb_xX (rb_kX (rb_w (kc := (0 + k_4)) (ks := (0 + s_5)) rfl rfl ?_))
  have hb := Bd.ade hb ea_7 eb_8
  cases hf
  exact rb_vret C rfl hb.e.2.1 hb.e.2.2 dJ3_fillNull_11 ⟨rfl, rfl, hb.e.1⟩
def f_J11_fillNull (Ev : rb_E) (h : AH) (n : Nat) (x0 : Nat) (x1 : Int32) (x2 : Int32) : Option (Unit × AH × Nat × Nat) := ((f_J9_fill Ev h n x0 x1 x2 0).bind fun (r_2, h_3, k_4, s_5) => (ad k_4 s_5 (some ((), h_3, 0, 0))))
abbrev rm_J11_fillNull (k s : Nat) : Room := { frames := 2, cells := k, slots := s, locals := 46 }
set_option maxHeartbeats 4000000 in
theorem ct_J11_fillNull (Ev : rb_E) (h : AH) (n : Nat) (x0 : Nat) (x1 : Int32) (x2 : Int32) (r : Unit) (h' : AH) (k s : Nat) (hf : f_J11_fillNull Ev h n x0 x1 x2 = some (r, h', k, s)) : Ct Ev yJ11_fillNull (ws_ yJ11_fillNull cJ11_fillNull 3 none) (rm_J11_fillNull k s) [.ref x0, .int x1, .int x2] h n (pX (.inl (none)) h' (n + k)) := by
  rw [f_J11_fillNull] at hf
  refine Ct.of rfl (Nat.le_of_ble_eq_true rfl) fun X C hnm => ?_
  have C : Cx Ev X RJ11 cJ11_fillNull 3 none [] := C
  show Wa Ev X (rm_J11_fillNull k s) 3 h n 0 0 (rb_MQ Ev X (rm_J11_fillNull k s) (pX (.inl (none)) h' (n + k))) 0 [(0, .ref x0), (1, .int x1), (2, .int x2)] []
  have hb : Bd (n + k) k s n 0 0 k s := ⟨rfl, Nat.le_of_eq (Nat.zero_add _), Nat.le_of_eq (Nat.zero_add _)⟩
  refine rb_aload_n C dJ11_fillNull_0 rfl 0 rfl ?_
  refine rb_iload_n C dJ11_fillNull_1 rfl 1 rfl ?_
  refine rb_iload_n C dJ11_fillNull_2 rfl 2 rfl ?_
  refine rb_iconst (v := 0) C dJ11_fillNull_3 rfl ?_
  obtain ⟨⟨r_2, h_3, k_4, s_5⟩, e_6, hf⟩ := rb_bd hf
  obtain ⟨a_9, b_10, hf, ea_7, eb_8⟩ := ad_at hf
  refine rb_callS (As := [.ref x0, .int x1, .int x2, .int 0]) (rest := []) C mi_J9_fill ss_J11_236 (ct_J9_fill Ev h n x0 x1 x2 0 r_2 _ _ _ e_6) rfl rfl (Nat.le_of_ble_eq_true rfl) ⟨Nat.le_of_ble_eq_true rfl, Nat.le_of_ble_eq_true rfl, Bd.c1 hb ea_7, Bd.s1 hb eb_8⟩ dJ11_fillNull_4 rb_xX (rb_kX (rb_w (kc := (0 + k_4)) (ks := (0 + s_5)) rfl rfl ?_))
  have hb := Bd.ade hb ea_7 eb_8
  cases hf
  exact rb_vret C rfl hb.e.2.1 hb.e.2.2 dJ11_fillNull_7 ⟨rfl, rfl, hb.e.1⟩
def f_J0_setLength_j76_17 (Ev : rb_E) (o : Nat) (x1 : Int32) (h_j76_17 : AH) (n_j76_17 : Nat) : Option (Unit × AH × Nat × Nat) := ((hp_put h_j76_17 o 13 3 (.int x1)).bind fun h_18 => (some ((), h_18, 0, 0)))
def f_J0_setLength (Ev : rb_E) (h : AH) (n : Nat) (o : Nat) (x1 : Int32) : Option (Unit × AH × Nat × Nat) := (if 0 ≤ x1 then ((hp_k Ev h o 13).bind fun u_2 => ((f_J0_ensureCapacityInternal Ev h n o x1).bind fun (r_5, h_6, k_7, s_8) => (ad k_7 s_8 ((hp_i Ev h_6 o 13 3).bind fun v_14 => (if x1 ≤ v_14 then ((hp_i Ev h_6 o 13 3).bind fun v_20 => (if v_20 ≤ x1 then (f_J0_setLength_j76_17 Ev o x1 h_6 (n + k_7)) else ((hp_put h_6 o 13 2 (.int 1)).bind fun h_23 => (f_J0_setLength_j76_17 Ev o x1 h_23 (n + k_7))))) else ((hp_k Ev h_6 o 13).bind fun u_25 => ((f_J0_isLatin1 Ev h_6 o).bind fun v_28 => (if v_28 = 0 then ((hp_p Ev h_6 o 13 0).bind fun v_31 => ((hp_i Ev h_6 o 13 3).bind fun v_33 => ((f_J3_fillNull Ev h_6 (n + k_7) v_31 v_33 x1).bind fun (r_36, h_37, k_38, s_39) => (ad k_38 s_39 (f_J0_setLength_j76_17 Ev o x1 h_37 ((n + k_7) + k_38)))))) else ((hp_p Ev h_6 o 13 0).bind fun v_45 => ((hp_i Ev h_6 o 13 3).bind fun v_47 => ((f_J11_fillNull Ev h_6 (n + k_7) v_45 v_47 x1).bind fun (r_50, h_51, k_52, s_53) => (ad k_52 s_53 (f_J0_setLength_j76_17 Ev o x1 h_51 ((n + k_7) + k_52)))))))))))))) else none)
abbrev rm_J0_setLength (k s : Nat) : Room := { frames := 4, cells := k, slots := s, locals := 130 }
set_option maxHeartbeats 4000000 in
theorem ct_J0_setLength (Ev : rb_E) (h : AH) (n : Nat) (o : Nat) (x1 : Int32) (r : Unit) (h' : AH) (k s : Nat) (hf : f_J0_setLength Ev h n o x1 = some (r, h', k, s)) : Ct Ev yJ0_setLength (ws_ yJ0_setLength cJ0_setLength 2 none) (rm_J0_setLength k s) [.ref o, .int x1] h n (pX (.inl (none)) h' (n + k)) := by
  rw [f_J0_setLength] at hf
  refine Ct.of rfl (Nat.le_of_ble_eq_true rfl) fun X C hnm => ?_
  have C : Cx Ev X RJ0 cJ0_setLength 2 none [] := C
  show Wa Ev X (rm_J0_setLength k s) 2 h n 0 0 (rb_MQ Ev X (rm_J0_setLength k s) (pX (.inl (none)) h' (n + k))) 0 [(0, .ref o), (1, .int x1)] []
  have hb : Bd (n + k) k s n 0 0 k s := ⟨rfl, Nat.le_of_eq (Nat.zero_add _), Nat.le_of_eq (Nat.zero_add _)⟩
  refine rb_iload_n C dJ0_setLength_0 rfl 1 rfl ?_
  refine rb_if_ge (tgt := 13) C dJ0_setLength_1 (by decide) (fun c_1 => ?_) (fun c_1 => ?_)
  · have hf := (if_pos c_1).symm.trans hf
    refine rb_aload_n C dJ0_setLength_13 rfl 0 rfl ?_
    refine rb_iload_n C dJ0_setLength_14 rfl 1 rfl ?_
    obtain ⟨u_2, e_3, hf⟩ := rb_bd hf
    obtain ⟨⟨r_5, h_6, k_7, s_8⟩, e_9, hf⟩ := rb_bd hf
    obtain ⟨a_12, b_13, hf, ea_10, eb_11⟩ := ad_at hf
    refine rb_callVP (As := [.int x1]) (rest := []) C mi_J0_ensureCapacityInternal sp_J0_100 (hp_k_isC C.pf e_3 ck_J1) (ct_J0_ensureCapacityInternal Ev h n o x1 r_5 _ _ _ e_9) rfl rfl (Nat.le_of_ble_eq_true rfl) ⟨Nat.le_of_ble_eq_true rfl, Nat.le_of_ble_eq_true rfl, Bd.c1 hb ea_10, Bd.s1 hb eb_11⟩ dJ0_setLength_15 rb_xX (rb_kX (rb_w (kc := (0 + k_7)) (ks := (0 + s_8)) rfl rfl ?_))
    have hb := Bd.ade hb ea_10 eb_11
    refine rb_aload_n C dJ0_setLength_18 rfl 0 rfl ?_
    obtain ⟨v_14, e_15, hf⟩ := rb_bd hf
    refine rb_hI C fl_J0_79_J1 e_15 dJ0_setLength_19 ?_
    refine rb_iload_n C dJ0_setLength_22 rfl 1 rfl ?_
    have J_j76_17 : ∀ (h_j76_17 : AH) (n_j76_17 : Nat) (kc_j76_17 ks_j76_17 a_ b_ : Nat), f_J0_setLength_j76_17 Ev o x1 h_j76_17 n_j76_17 = some (r, h', a_, b_) → Bd (n + k) k s n_j76_17 kc_j76_17 ks_j76_17 a_ b_ → Wa Ev X (rm_J0_setLength k s) 2 h_j76_17 n_j76_17 kc_j76_17 ks_j76_17 (rb_MQ Ev X (rm_J0_setLength k s) (pX (.inl (none)) h' (n + k))) 76 [(0, .ref o), (1, .int x1)] [] := by
      intro h_j76_17 n_j76_17 kc_j76_17 ks_j76_17 a_ b_ hf hb
      rw [f_J0_setLength_j76_17] at hf
      refine rb_aload_n C dJ0_setLength_76 rfl 0 rfl ?_
      refine rb_iload_n C dJ0_setLength_77 rfl 1 rfl ?_
      obtain ⟨h_18, e_19, hf⟩ := rb_bd hf
      refine rb_hput C fw_J0_79_J1 e_19 rfl rfl dJ0_setLength_78 ?_
      cases hf
      exact rb_vret C rfl hb.e.2.1 hb.e.2.2 dJ0_setLength_81 ⟨rfl, rfl, hb.e.1⟩
    refine rb_icmp_ge (tgt := 63) C dJ0_setLength_23 (by decide) (fun c_16 => ?_) (fun c_16 => ?_)
    · have hf := (if_pos c_16).symm.trans hf
      refine rb_aload_n C dJ0_setLength_63 rfl 0 rfl ?_
      obtain ⟨v_20, e_21, hf⟩ := rb_bd hf
      refine rb_hI C fl_J0_79_J1 e_21 dJ0_setLength_64 ?_
      refine rb_iload_n C dJ0_setLength_67 rfl 1 rfl ?_
      refine rb_icmp_le (tgt := 76) C dJ0_setLength_68 (by decide) (fun c_22 => ?_) (fun c_22 => ?_)
      · have hf := (if_pos c_22).symm.trans hf
        exact J_j76_17 h_6 (n + k_7)  _ _ _ _ hf hb
      · have hf := (if_neg c_22).symm.trans hf
        refine rb_aload_n C dJ0_setLength_71 rfl 0 rfl ?_
        refine rb_iconst (v := 1) C dJ0_setLength_72 rfl ?_
        obtain ⟨h_23, e_24, hf⟩ := rb_bd hf
        refine rb_hput C fw_J0_73_J1 e_24 rfl rfl dJ0_setLength_73 ?_
        exact J_j76_17 h_23 (n + k_7)  _ _ _ _ hf hb
    · have hf := (if_neg c_16).symm.trans hf
      refine rb_aload_n C dJ0_setLength_26 rfl 0 rfl ?_
      obtain ⟨u_25, e_26, hf⟩ := rb_bd hf
      obtain ⟨v_28, e_29, hf⟩ := rb_bd hf
      refine rb_callU (As := []) (rest := []) C mi_J0_isLatin1 su_J0_83_J1 (hp_k_isC C.pf e_26 ck_J1) (ct_J0_isLatin1 Ev h_6 (n + k_7) o _ e_29) rfl rfl (Nat.le_of_ble_eq_true rfl) ⟨Nat.le_of_ble_eq_true rfl, Nat.le_of_ble_eq_true rfl, hb.c0, hb.s0⟩ dJ0_setLength_27 rb_xXi (rb_kXi fun hn_27 => (rb_w (kc := (0 + k_7)) (ks := (0 + s_8)) rfl rfl ?_))
      refine rb_if_eq (tgt := 48) C dJ0_setLength_30 (by decide) (fun c_30 => ?_) (fun c_30 => ?_)
      · have hf := (if_pos c_30).symm.trans hf
        refine rb_aload_n C dJ0_setLength_48 rfl 0 rfl ?_
        obtain ⟨v_31, e_32, hf⟩ := rb_bd hf
        refine rb_hP C fl_J0_15_J1 e_32 dJ0_setLength_49 ?_
        refine rb_aload_n C dJ0_setLength_52 rfl 0 rfl ?_
        obtain ⟨v_33, e_34, hf⟩ := rb_bd hf
        refine rb_hI C fl_J0_79_J1 e_34 dJ0_setLength_53 ?_
        refine rb_iload_n C dJ0_setLength_56 rfl 1 rfl ?_
        obtain ⟨⟨r_36, h_37, k_38, s_39⟩, e_40, hf⟩ := rb_bd hf
        obtain ⟨a_43, b_44, hf, ea_41, eb_42⟩ := ad_at hf
        refine rb_callS (As := [.ref v_31, .int v_33, .int x1]) (rest := []) C mi_J3_fillNull ss_J0_137 (ct_J3_fillNull Ev h_6 (n + k_7) v_31 v_33 x1 r_36 _ _ _ e_40) rfl rfl (Nat.le_of_ble_eq_true rfl) ⟨Nat.le_of_ble_eq_true rfl, Nat.le_of_ble_eq_true rfl, Bd.c1 hb ea_41, Bd.s1 hb eb_42⟩ dJ0_setLength_57 rb_xX (rb_kX (rb_w (kc := ((0 + k_7) + k_38)) (ks := ((0 + s_8) + s_39)) rfl rfl ?_))
        have hb := Bd.ade hb ea_41 eb_42
        refine rb_goto (tgt := 76) C dJ0_setLength_60 (by decide) ?_
        exact J_j76_17 h_37 ((n + k_7) + k_38)  _ _ _ _ hf hb
      · have hf := (if_neg c_30).symm.trans hf
        refine rb_aload_n C dJ0_setLength_33 rfl 0 rfl ?_
        obtain ⟨v_45, e_46, hf⟩ := rb_bd hf
        refine rb_hP C fl_J0_15_J1 e_46 dJ0_setLength_34 ?_
        refine rb_aload_n C dJ0_setLength_37 rfl 0 rfl ?_
        obtain ⟨v_47, e_48, hf⟩ := rb_bd hf
        refine rb_hI C fl_J0_79_J1 e_48 dJ0_setLength_38 ?_
        refine rb_iload_n C dJ0_setLength_41 rfl 1 rfl ?_
        obtain ⟨⟨r_50, h_51, k_52, s_53⟩, e_54, hf⟩ := rb_bd hf
        obtain ⟨a_57, b_58, hf, ea_55, eb_56⟩ := ad_at hf
        refine rb_callS (As := [.ref v_45, .int v_47, .int x1]) (rest := []) C mi_J11_fillNull ss_J0_133 (ct_J11_fillNull Ev h_6 (n + k_7) v_45 v_47 x1 r_50 _ _ _ e_54) rfl rfl (Nat.le_of_ble_eq_true rfl) ⟨Nat.le_of_ble_eq_true rfl, Nat.le_of_ble_eq_true rfl, Bd.c1 hb ea_55, Bd.s1 hb eb_56⟩ dJ0_setLength_42 rb_xX (rb_kX (rb_w (kc := ((0 + k_7) + k_52)) (ks := ((0 + s_8) + s_53)) rfl rfl ?_))
        have hb := Bd.ade hb ea_55 eb_56
        refine rb_goto (tgt := 76) C dJ0_setLength_45 (by decide) ?_
        exact J_j76_17 h_51 ((n + k_7) + k_52)  _ _ _ _ hf hb
  · have hf := (if_neg c_1).symm.trans hf
    cases hf
def f_J1_setLength (Ev : rb_E) (h : AH) (n : Nat) (o : Nat) (x1 : Int32) : Option (Unit × AH × Nat × Nat) := ((hp_k Ev h o 13).bind fun u_1 => ((f_J0_setLength Ev h n o x1).bind fun (r_4, h_5, k_6, s_7) => (ad k_6 s_7 (some ((), h_5, 0, 0)))))
abbrev rm_J1_setLength (k s : Nat) : Room := { frames := 5, cells := k, slots := s, locals := 151 }
set_option maxHeartbeats 4000000 in
theorem ct_J1_setLength (Ev : rb_E) (h : AH) (n : Nat) (o : Nat) (x1 : Int32) (r : Unit) (h' : AH) (k s : Nat) (hf : f_J1_setLength Ev h n o x1 = some (r, h', k, s)) : Ct Ev yJ1_setLength (ws_ yJ1_setLength cJ1_setLength 2 none) (rm_J1_setLength k s) [.ref o, .int x1] h n (pX (.inl (none)) h' (n + k)) := by
  rw [f_J1_setLength] at hf
  refine Ct.of rfl (Nat.le_of_ble_eq_true rfl) fun X C hnm => ?_
  have C : Cx Ev X RJ1 cJ1_setLength 2 none [] := C
  show Wa Ev X (rm_J1_setLength k s) 2 h n 0 0 (rb_MQ Ev X (rm_J1_setLength k s) (pX (.inl (none)) h' (n + k))) 0 [(0, .ref o), (1, .int x1)] []
  have hb : Bd (n + k) k s n 0 0 k s := ⟨rfl, Nat.le_of_eq (Nat.zero_add _), Nat.le_of_eq (Nat.zero_add _)⟩
  refine rb_aload_n C dJ1_setLength_0 rfl 0 rfl ?_
  refine rb_iload_n C dJ1_setLength_1 rfl 1 rfl ?_
  obtain ⟨u_1, e_2, hf⟩ := rb_bd hf
  obtain ⟨⟨r_4, h_5, k_6, s_7⟩, e_8, hf⟩ := rb_bd hf
  obtain ⟨a_11, b_12, hf, ea_9, eb_10⟩ := ad_at hf
  refine rb_callSU (As := [.int x1]) (rest := []) C mi_J0_setLength sx_J1_333 ck_J1 (hp_k_isC C.pf e_2 ck_J1) (ct_J0_setLength Ev h n o x1 r_4 _ _ _ e_8) rfl rfl (Nat.le_of_ble_eq_true rfl) ⟨Nat.le_of_ble_eq_true rfl, Nat.le_of_ble_eq_true rfl, Bd.c1 hb ea_9, Bd.s1 hb eb_10⟩ dJ1_setLength_2 rb_xX (rb_kX (rb_w (kc := (0 + k_6)) (ks := (0 + s_7)) rfl rfl ?_))
  have hb := Bd.ade hb ea_9 eb_10
  cases hf
  exact rb_vret C rfl hb.e.2.1 hb.e.2.2 dJ1_setLength_5 ⟨rfl, rfl, hb.e.1⟩
def f_X2_erase_j51_16 (Ev : rb_E) (o : Nat) (y1_l4_1 : Int32) (h_l4_1 : AH) (n_l4_1 : Nat) (w0_j51_16 : Int32) : Option ((Int32 ⊕ (String × Nat)) × AH × Nat × Nat) := ((f_X1_denyUnless Ev h_l4_1 n_l4_1 w0_j51_16 3 y1_l4_1).bind fun (r_18, h_19, k_20, s_21) => (ad k_20 s_21 (match r_18 with | .inl v_27 => ((hp_p Ev h_19 o 1 0).bind fun v_30 => ((hp_p Ev h_19 o 1 0).bind fun v_32 => ((hp_k Ev h_19 v_32 13).bind fun u_34 => ((f_J1_length Ev h_19 v_32).bind fun v_37 => ((hp_k Ev h_19 v_30 13).bind fun u_39 => ((f_J1_charAt Ev h_19 v_30 (v_37 - 1)).bind fun v_42 => ((hp_p Ev h_19 o 1 0).bind fun v_44 => ((hp_p Ev h_19 o 1 0).bind fun v_46 => ((hp_k Ev h_19 v_46 13).bind fun u_48 => ((f_J1_length Ev h_19 v_46).bind fun v_51 => ((hp_k Ev h_19 v_44 13).bind fun u_53 => ((f_J1_setLength Ev h_19 (n_l4_1 + k_20) v_44 (v_51 - 1)).bind fun (r_56, h_57, k_58, s_59) => (ad k_58 s_59 (some (.inl v_42, h_57, 0, 0))))))))))))))) | .inr (E_28, q_29) => (if E_28 = "RainbowOperators$Denial" then (some (.inr ("RainbowOperators$Denial", q_29), h_19, 0, 0)) else none))))
def f_X2_erase_j28_71 (Ev : rb_E) (y1_l4_1 : Int32) (y2_l4_1 : Int32) (h_l4_1 : AH) (n_l4_1 : Nat) (rec_l4_1 : Int32 → Int32 → AH → Nat → Option ((Int32 ⊕ (String × Nat)) × AH × Nat × Nat)) (w0_j28_71 : Int32) : Option ((Int32 ⊕ (String × Nat)) × AH × Nat × Nat) := (rec_l4_1 (y1_l4_1 + w0_j28_71) (y2_l4_1 + 1) h_l4_1 n_l4_1)
def f_X2_erase_l4_1 (Ev : rb_E) (o : Nat) : Nat → Int32 → Int32 → AH → Nat → Option ((Int32 ⊕ (String × Nat)) × AH × Nat × Nat)
  | 0, _, _, _, _ => none
  | k_l4_1 + 1, y1_l4_1, y2_l4_1, h_l4_1, n_l4_1 => ((hp_k Ev h_l4_1 (eS Ev RX2 70) 14).bind fun u_2 => ((f_J2_length Ev h_l4_1 (eS Ev RX2 70)).bind fun v_5 => (if v_5 ≤ y2_l4_1 then ((hp_p Ev h_l4_1 o 1 0).bind fun v_8 => ((hp_k Ev h_l4_1 v_8 13).bind fun u_10 => ((f_J1_length Ev h_l4_1 v_8).bind fun v_13 => (if v_13 ≤ 0 then (f_X2_erase_j51_16 Ev o y1_l4_1 h_l4_1 n_l4_1 0) else (f_X2_erase_j51_16 Ev o y1_l4_1 h_l4_1 n_l4_1 1))))) else ((hp_p Ev h_l4_1 o 1 1).bind fun v_66 => ((hp_il Ev h_l4_1 v_66 y2_l4_1).bind fun v_68 => (if v_68 = 0 then (f_X2_erase_j28_71 Ev y1_l4_1 y2_l4_1 h_l4_1 n_l4_1 (f_X2_erase_l4_1 Ev o k_l4_1) 1) else (f_X2_erase_j28_71 Ev y1_l4_1 y2_l4_1 h_l4_1 n_l4_1 (f_X2_erase_l4_1 Ev o k_l4_1) 0)))))))
def f_X2_erase (Ev : rb_E) (h : AH) (n : Nat) (o : Nat) : Option ((Int32 ⊕ (String × Nat)) × AH × Nat × Nat) := (f_X2_erase_l4_1 Ev o 4096 0 0 h n)
abbrev rm_X2_erase (k s : Nat) : Room := { frames := 6, cells := k, slots := s, locals := 172 }
set_option maxHeartbeats 4000000 in
theorem ct_X2_erase (Ev : rb_E) (h : AH) (n : Nat) (o : Nat) (r : Int32 ⊕ (String × Nat)) (h' : AH) (k s : Nat) (hf : f_X2_erase Ev h n o = some (r, h', k, s)) : Ct Ev yX2_erase (ws_ yX2_erase cX2_erase 3 (some .int)) (rm_X2_erase k s) [.ref o] h n (pX (rMap (fun v => some (.int v)) r) h' (n + k)) := by
  rw [f_X2_erase] at hf
  refine Ct.of rfl (Nat.le_of_ble_eq_true rfl) fun X C hnm => ?_
  have C : Cx Ev X RX2 cX2_erase 3 (some .int) [] := C
  show Wa Ev X (rm_X2_erase k s) 3 h n 0 0 (rb_MQ Ev X (rm_X2_erase k s) (pX (rMap (fun v => some (.int v)) r) h' (n + k))) 0 [(0, .ref o)] []
  have hb : Bd (n + k) k s n 0 0 k s := ⟨rfl, Nat.le_of_eq (Nat.zero_add _), Nat.le_of_eq (Nat.zero_add _)⟩
  refine rb_iconst (v := 0) C dX2_erase_0 rfl ?_
  refine rb_istore_n (lv' := [(1, .int 0), (0, .ref o)]) C dX2_erase_1 rfl (by decide) rfl ?_
  refine rb_iconst (v := 0) C dX2_erase_2 rfl ?_
  refine rb_istore_n (lv' := [(2, .int 0), (1, .int 0), (0, .ref o)]) C dX2_erase_3 rfl (by decide) rfl ?_
  have L_l4_1 : ∀ (k_l4_1 : Nat) (y1_l4_1 : Int32) (y2_l4_1 : Int32) (h_l4_1 : AH) (n_l4_1 kc_l4_1 ks_l4_1 a_ b_ : Nat), f_X2_erase_l4_1 Ev o k_l4_1 y1_l4_1 y2_l4_1 h_l4_1 n_l4_1 = some (r, h', a_, b_) → Bd (n + k) k s n_l4_1 kc_l4_1 ks_l4_1 a_ b_ → Wa Ev X (rm_X2_erase k s) 3 h_l4_1 n_l4_1 kc_l4_1 ks_l4_1 (rb_MQ Ev X (rm_X2_erase k s) (pX (rMap (fun v => some (.int v)) r) h' (n + k))) 4 [(0, .ref o), (1, .int y1_l4_1), (2, .int y2_l4_1)] [] := by
    intro k_l4_1
    induction k_l4_1 with
    | zero => intro y1_l4_1 y2_l4_1 h_l4_1 n_l4_1 kc_l4_1 ks_l4_1 a_ b_ hf hb; cases hf
    | succ k_l4_1 ih_l4_1 =>
      intro y1_l4_1 y2_l4_1 h_l4_1 n_l4_1 kc_l4_1 ks_l4_1 a_ b_ hf hb
      rw [f_X2_erase_l4_1] at hf
      refine rb_iload_n C dX2_erase_4 rfl 2 rfl ?_
      refine rb_ldcS C q897 dX2_erase_5 ?_
      obtain ⟨u_2, e_3, hf⟩ := rb_bd hf
      obtain ⟨v_5, e_6, hf⟩ := rb_bd hf
      refine rb_callV (As := []) (rest := [.int y2_l4_1]) C mi_J2_length sv_X2_172 (hp_k_isC C.pf e_3 ck_J2) (ct_J2_length Ev h_l4_1 n_l4_1 (eS Ev RX2 70) _ e_6) rfl rfl (Nat.le_of_ble_eq_true rfl) ⟨Nat.le_of_ble_eq_true rfl, Nat.le_of_ble_eq_true rfl, hb.c0, hb.s0⟩ dX2_erase_7 rb_xXi (rb_kXi fun hn_4 => (rb_w (kc := kc_l4_1) (ks := ks_l4_1) rfl rfl ?_))
      refine rb_icmp_ge (tgt := 36) C dX2_erase_10 (by decide) (fun c_7 => ?_) (fun c_7 => ?_)
      · have hf := (if_pos c_7).symm.trans hf
        refine rb_aload_n C dX2_erase_36 rfl 0 rfl ?_
        obtain ⟨v_8, e_9, hf⟩ := rb_bd hf
        refine rb_hP C fl_X2_12_X2 e_9 dX2_erase_37 ?_
        obtain ⟨u_10, e_11, hf⟩ := rb_bd hf
        obtain ⟨v_13, e_14, hf⟩ := rb_bd hf
        refine rb_callV (As := []) (rest := []) C mi_J1_length sv_X2_72 (hp_k_isC C.pf e_11 ck_J1) (ct_J1_length Ev h_l4_1 n_l4_1 v_8 _ e_14) rfl rfl (Nat.le_of_ble_eq_true rfl) ⟨Nat.le_of_ble_eq_true rfl, Nat.le_of_ble_eq_true rfl, hb.c0, hb.s0⟩ dX2_erase_40 rb_xXi (rb_kXi fun hn_12 => (rb_w (kc := kc_l4_1) (ks := ks_l4_1) rfl rfl ?_))
        have J_j51_16 : ∀ (w0_j51_16 : Int32) (kc_j51_16 ks_j51_16 a_ b_ : Nat), f_X2_erase_j51_16 Ev o y1_l4_1 h_l4_1 n_l4_1 w0_j51_16 = some (r, h', a_, b_) → Bd (n + k) k s n_l4_1 kc_j51_16 ks_j51_16 a_ b_ → Wa Ev X (rm_X2_erase k s) 3 h_l4_1 n_l4_1 kc_j51_16 ks_j51_16 (rb_MQ Ev X (rm_X2_erase k s) (pX (rMap (fun v => some (.int v)) r) h' (n + k))) 51 [(0, .ref o), (1, .int y1_l4_1), (2, .int y2_l4_1)] [.int w0_j51_16] := by
          intro w0_j51_16 kc_j51_16 ks_j51_16 a_ b_ hf hb
          rw [f_X2_erase_j51_16] at hf
          refine rb_iconst (v := 3) C dX2_erase_51 rfl ?_
          refine rb_iload_n C dX2_erase_52 rfl 1 rfl ?_
          obtain ⟨⟨r_18, h_19, k_20, s_21⟩, e_22, hf⟩ := rb_bd hf
          obtain ⟨a_25, b_26, hf, ea_23, eb_24⟩ := ad_at hf
          rcases r_18 with v_27 | ⟨E_28, q_29⟩
          · dsimp only at hf
            refine rb_callSN (As := [.int w0_j51_16, .int 3, .int y1_l4_1]) (rest := []) C mi_X1_denyUnless ss_X2_137 (ct_X1_denyUnless Ev h_l4_1 n_l4_1 w0_j51_16 3 y1_l4_1 (.inl v_27) _ _ _ e_22) rfl rfl (Nat.le_of_ble_eq_true rfl) ⟨Nat.le_of_ble_eq_true rfl, Nat.le_of_ble_eq_true rfl, Bd.c1 hb ea_23, Bd.s1 hb eb_24⟩ dX2_erase_53 rb_xX (rb_kX (r := none) (rb_w (kc := (kc_j51_16 + k_20)) (ks := (ks_j51_16 + s_21)) rfl rfl ?_))
            have hb := Bd.ade hb ea_23 eb_24
            refine rb_aload_n C dX2_erase_56 rfl 0 rfl ?_
            obtain ⟨v_30, e_31, hf⟩ := rb_bd hf
            refine rb_hP C fl_X2_12_X2 e_31 dX2_erase_57 ?_
            refine rb_aload_n C dX2_erase_60 rfl 0 rfl ?_
            obtain ⟨v_32, e_33, hf⟩ := rb_bd hf
            refine rb_hP C fl_X2_12_X2 e_33 dX2_erase_61 ?_
            obtain ⟨u_34, e_35, hf⟩ := rb_bd hf
            obtain ⟨v_37, e_38, hf⟩ := rb_bd hf
            refine rb_callV (As := []) (rest := [.ref v_30]) C mi_J1_length sv_X2_72 (hp_k_isC C.pf e_35 ck_J1) (ct_J1_length Ev h_19 (n_l4_1 + k_20) v_32 _ e_38) rfl rfl (Nat.le_of_ble_eq_true rfl) ⟨Nat.le_of_ble_eq_true rfl, Nat.le_of_ble_eq_true rfl, hb.c0, hb.s0⟩ dX2_erase_64 rb_xXi (rb_kXi fun hn_36 => (rb_w (kc := (kc_j51_16 + k_20)) (ks := (ks_j51_16 + s_21)) rfl rfl ?_))
            refine rb_iconst (v := 1) C dX2_erase_67 rfl ?_
            refine rb_isub C dX2_erase_68 ?_
            obtain ⟨u_39, e_40, hf⟩ := rb_bd hf
            obtain ⟨v_42, e_43, hf⟩ := rb_bd hf
            refine rb_callV (As := [.int (v_37 - 1)]) (rest := []) C mi_J1_charAt sv_X2_76 (hp_k_isC C.pf e_40 ck_J1) (ct_J1_charAt Ev h_19 (n_l4_1 + k_20) v_30 (v_37 - 1) _ e_43) rfl rfl (Nat.le_of_ble_eq_true rfl) ⟨Nat.le_of_ble_eq_true rfl, Nat.le_of_ble_eq_true rfl, hb.c0, hb.s0⟩ dX2_erase_69 rb_xXi (rb_kXi fun hn_41 => (rb_w (kc := (kc_j51_16 + k_20)) (ks := (ks_j51_16 + s_21)) rfl rfl ?_))
            refine rb_istore_n (lv' := [(2, .int v_42), (0, .ref o), (1, .int y1_l4_1)]) C dX2_erase_72 rfl (by decide) rfl ?_
            refine rb_aload_n C dX2_erase_73 rfl 1 rfl ?_
            obtain ⟨v_44, e_45, hf⟩ := rb_bd hf
            refine rb_hP C fl_X2_12_X2 e_45 dX2_erase_74 ?_
            refine rb_aload_n C dX2_erase_77 rfl 1 rfl ?_
            obtain ⟨v_46, e_47, hf⟩ := rb_bd hf
            refine rb_hP C fl_X2_12_X2 e_47 dX2_erase_78 ?_
            obtain ⟨u_48, e_49, hf⟩ := rb_bd hf
            obtain ⟨v_51, e_52, hf⟩ := rb_bd hf
            refine rb_callV (As := []) (rest := [.ref v_44]) C mi_J1_length sv_X2_72 (hp_k_isC C.pf e_49 ck_J1) (ct_J1_length Ev h_19 (n_l4_1 + k_20) v_46 _ e_52) rfl rfl (Nat.le_of_ble_eq_true rfl) ⟨Nat.le_of_ble_eq_true rfl, Nat.le_of_ble_eq_true rfl, hb.c0, hb.s0⟩ dX2_erase_81 rb_xXi (rb_kXi fun hn_50 => (rb_w (kc := (kc_j51_16 + k_20)) (ks := (ks_j51_16 + s_21)) rfl rfl ?_))
            refine rb_iconst (v := 1) C dX2_erase_84 rfl ?_
            refine rb_isub C dX2_erase_85 ?_
            obtain ⟨u_53, e_54, hf⟩ := rb_bd hf
            obtain ⟨⟨r_56, h_57, k_58, s_59⟩, e_60, hf⟩ := rb_bd hf
            obtain ⟨a_63, b_64, hf, ea_61, eb_62⟩ := ad_at hf
            refine rb_callV (As := [.int (v_51 - 1)]) (rest := []) C mi_J1_setLength sv_X2_177 (hp_k_isC C.pf e_54 ck_J1) (ct_J1_setLength Ev h_19 (n_l4_1 + k_20) v_44 (v_51 - 1) r_56 _ _ _ e_60) rfl rfl (Nat.le_of_ble_eq_true rfl) ⟨Nat.le_of_ble_eq_true rfl, Nat.le_of_ble_eq_true rfl, Bd.c1 hb ea_61, Bd.s1 hb eb_62⟩ dX2_erase_86 rb_xX (rb_kX (rb_w (kc := ((kc_j51_16 + k_20) + k_58)) (ks := ((ks_j51_16 + s_21) + s_59)) rfl rfl ?_))
            have hb := Bd.ade hb ea_61 eb_62
            refine rb_iload_n C dX2_erase_89 rfl 0 rfl ?_
            cases hf
            exact rb_iret C rfl rfl hb.e.2.1 hb.e.2.2 dX2_erase_90 ⟨rfl, rfl, hb.e.1⟩
          · dsimp only at hf
            by_cases c_65 : E_28 = "RainbowOperators$Denial"
            · have hf := (if_pos c_65).symm.trans hf
              subst c_65
              refine rb_callSN (As := [.int w0_j51_16, .int 3, .int y1_l4_1]) (rest := []) C mi_X1_denyUnless ss_X2_137 (ct_X1_denyUnless Ev h_l4_1 n_l4_1 w0_j51_16 3 y1_l4_1 (.inr ("RainbowOperators$Denial", q_29)) _ _ _ e_22) rfl rfl (Nat.le_of_ble_eq_true rfl) ⟨Nat.le_of_ble_eq_true rfl, Nat.le_of_ble_eq_true rfl, Bd.c1 hb ea_23, Bd.s1 hb eb_24⟩ dX2_erase_53 (rb_xY (E := "RainbowOperators$Denial") (rb_wX (kc := (kc_j51_16 + k_20)) (ks := (ks_j51_16 + s_21)) rfl rfl ?_)) rb_kY
              have hb := Bd.ade hb ea_23 eb_24
              cases hf
              exact rb_out C (fun _ z => absurd z List.not_mem_nil) hb.e.2.1 hb.e.2.2 ⟨rfl, rfl, hb.e.1⟩
            have hf := (if_neg c_65).symm.trans hf
            cases hf
        refine rb_if_le (tgt := 50) C dX2_erase_43 (by decide) (fun c_15 => ?_) (fun c_15 => ?_)
        · have hf := (if_pos c_15).symm.trans hf
          refine rb_iconst (v := 0) C dX2_erase_50 rfl ?_
          exact J_j51_16 0  _ _ _ _ hf hb
        · have hf := (if_neg c_15).symm.trans hf
          refine rb_iconst (v := 1) C dX2_erase_46 rfl ?_
          refine rb_goto (tgt := 51) C dX2_erase_47 (by decide) ?_
          exact J_j51_16 1  _ _ _ _ hf hb
      · have hf := (if_neg c_7).symm.trans hf
        refine rb_iload_n C dX2_erase_13 rfl 1 rfl ?_
        refine rb_aload_n C dX2_erase_14 rfl 0 rfl ?_
        obtain ⟨v_66, e_67, hf⟩ := rb_bd hf
        refine rb_hP C fl_X2_18_X2 e_67 dX2_erase_15 ?_
        refine rb_iload_n C dX2_erase_18 rfl 2 rfl ?_
        obtain ⟨v_68, e_69, hf⟩ := rb_bd hf
        refine rb_hil C e_69 dX2_erase_19 ?_
        have J_j28_71 : ∀ (w0_j28_71 : Int32) (kc_j28_71 ks_j28_71 a_ b_ : Nat), f_X2_erase_j28_71 Ev y1_l4_1 y2_l4_1 h_l4_1 n_l4_1 (f_X2_erase_l4_1 Ev o k_l4_1) w0_j28_71 = some (r, h', a_, b_) → Bd (n + k) k s n_l4_1 kc_j28_71 ks_j28_71 a_ b_ → Wa Ev X (rm_X2_erase k s) 3 h_l4_1 n_l4_1 kc_j28_71 ks_j28_71 (rb_MQ Ev X (rm_X2_erase k s) (pX (rMap (fun v => some (.int v)) r) h' (n + k))) 28 [(0, .ref o), (1, .int y1_l4_1), (2, .int y2_l4_1)] [.int w0_j28_71, .int y1_l4_1] := by
          intro w0_j28_71 kc_j28_71 ks_j28_71 a_ b_ hf hb
          rw [f_X2_erase_j28_71] at hf
          refine rb_iadd C dX2_erase_28 ?_
          refine rb_istore_n (lv' := [(1, .int (y1_l4_1 + w0_j28_71)), (0, .ref o), (2, .int y2_l4_1)]) C dX2_erase_29 rfl (by decide) rfl ?_
          refine rb_iinc (v := (y2_l4_1 + 1)) (lv' := [(2, .int (y2_l4_1 + 1)), (1, .int (y1_l4_1 + w0_j28_71)), (0, .ref o)]) C dX2_erase_30 (k := 2) rfl rfl (by decide) rfl ?_
          refine rb_goto (tgt := 4) C dX2_erase_33 (by decide) ?_
          refine rb_sub [2, 1, 0] rfl ?_
          exact ih_l4_1 (y1_l4_1 + w0_j28_71) (y2_l4_1 + 1) h_l4_1 n_l4_1 _ _ _ _ hf hb
        refine rb_if_ne (tgt := 27) C dX2_erase_20 (by decide) (fun c_70 => ?_) (fun c_70 => ?_)
        · have hf := (if_neg c_70).symm.trans hf
          refine rb_iconst (v := 0) C dX2_erase_27 rfl ?_
          exact J_j28_71 0  _ _ _ _ hf hb
        · have hf := (if_pos c_70).symm.trans hf
          refine rb_iconst (v := 1) C dX2_erase_23 rfl ?_
          refine rb_goto (tgt := 28) C dX2_erase_24 (by decide) ?_
          exact J_j28_71 1  _ _ _ _ hf hb
  refine rb_sub [2, 1, 0] rfl ?_
  exact L_l4_1 4096 0 0 h n _ _ _ _ hf hb
def f_X2_clear (Ev : rb_E) (h : AH) (n : Nat) (o : Nat) : Option (Int32 × AH × Nat × Nat) := ((hp_p Ev h o 1 0).bind fun v_1 => ((hp_k Ev h v_1 13).bind fun u_3 => ((f_J1_length Ev h v_1).bind fun v_6 => ((hp_p Ev h o 1 0).bind fun v_8 => ((hp_k Ev h v_8 13).bind fun u_10 => ((f_J1_setLength Ev h n v_8 0).bind fun (r_13, h_14, k_15, s_16) => (ad k_15 s_16 (some (v_6, h_14, 0, 0)))))))))
abbrev rm_X2_clear (k s : Nat) : Room := { frames := 6, cells := k, slots := s, locals := 172 }
set_option maxHeartbeats 4000000 in
theorem ct_X2_clear (Ev : rb_E) (h : AH) (n : Nat) (o : Nat) (r : Int32) (h' : AH) (k s : Nat) (hf : f_X2_clear Ev h n o = some (r, h', k, s)) : Ct Ev yX2_clear (ws_ yX2_clear cX2_clear 2 (some .int)) (rm_X2_clear k s) [.ref o] h n (pXi .int r h' (n + k)) := by
  rw [f_X2_clear] at hf
  refine Ct.of rfl (Nat.le_of_ble_eq_true rfl) fun X C hnm => ?_
  have C : Cx Ev X RX2 cX2_clear 2 (some .int) [] := C
  show Wa Ev X (rm_X2_clear k s) 2 h n 0 0 (rb_MQ Ev X (rm_X2_clear k s) (pXi .int r h' (n + k))) 0 [(0, .ref o)] []
  have hb : Bd (n + k) k s n 0 0 k s := ⟨rfl, Nat.le_of_eq (Nat.zero_add _), Nat.le_of_eq (Nat.zero_add _)⟩
  refine rb_aload_n C dX2_clear_0 rfl 0 rfl ?_
  obtain ⟨v_1, e_2, hf⟩ := rb_bd hf
  refine rb_hP C fl_X2_12_X2 e_2 dX2_clear_1 ?_
  obtain ⟨u_3, e_4, hf⟩ := rb_bd hf
  obtain ⟨v_6, e_7, hf⟩ := rb_bd hf
  refine rb_callV (As := []) (rest := []) C mi_J1_length sv_X2_72 (hp_k_isC C.pf e_4 ck_J1) (ct_J1_length Ev h n v_1 _ e_7) rfl rfl (Nat.le_of_ble_eq_true rfl) ⟨Nat.le_of_ble_eq_true rfl, Nat.le_of_ble_eq_true rfl, hb.c0, hb.s0⟩ dX2_clear_4 rb_xXi (rb_kXi fun hn_5 => (rb_w (kc := 0) (ks := 0) rfl rfl ?_))
  refine rb_istore_n (lv' := [(1, .int v_6), (0, .ref o)]) C dX2_clear_7 rfl (by decide) rfl ?_
  refine rb_aload_n C dX2_clear_8 rfl 1 rfl ?_
  obtain ⟨v_8, e_9, hf⟩ := rb_bd hf
  refine rb_hP C fl_X2_12_X2 e_9 dX2_clear_9 ?_
  refine rb_iconst (v := 0) C dX2_clear_12 rfl ?_
  obtain ⟨u_10, e_11, hf⟩ := rb_bd hf
  obtain ⟨⟨r_13, h_14, k_15, s_16⟩, e_17, hf⟩ := rb_bd hf
  obtain ⟨a_20, b_21, hf, ea_18, eb_19⟩ := ad_at hf
  refine rb_callV (As := [.int 0]) (rest := []) C mi_J1_setLength sv_X2_177 (hp_k_isC C.pf e_11 ck_J1) (ct_J1_setLength Ev h n v_8 0 r_13 _ _ _ e_17) rfl rfl (Nat.le_of_ble_eq_true rfl) ⟨Nat.le_of_ble_eq_true rfl, Nat.le_of_ble_eq_true rfl, Bd.c1 hb ea_18, Bd.s1 hb eb_19⟩ dX2_clear_13 rb_xX (rb_kX (rb_w (kc := (0 + k_15)) (ks := (0 + s_16)) rfl rfl ?_))
  have hb := Bd.ade hb ea_18 eb_19
  refine rb_iload_n C dX2_clear_16 rfl 0 rfl ?_
  cases hf
  exact rb_iret C rfl rfl hb.e.2.1 hb.e.2.2 dX2_clear_17 ⟨rfl, rfl, hb.e.1, rfl⟩
def f_X1_requiredIn_j15_7 (Ev : rb_E) (h : AH) (n : Nat) (v_4 : Int32) (w0_j15_7 : Int32) : Option ((Int32 ⊕ (String × Nat)) × AH × Nat × Nat) := ((f_X1_requireArgument Ev h n w0_j15_7).bind fun (r_9, h_10, k_11, s_12) => (ad k_11 s_12 (match r_9 with | .inl v_18 => (some (.inl v_4, h_10, 0, 0)) | .inr (E_19, q_20) => (if E_19 = "java/lang/IllegalArgumentException" then (some (.inr ("java/lang/IllegalArgumentException", q_20), h_10, 0, 0)) else none))))
def f_X1_requiredIn (Ev : rb_E) (h : AH) (n : Nat) (x0 : Nat) (x1 : Int32) : Option ((Int32 ⊕ (String × Nat)) × AH × Nat × Nat) := ((hp_k Ev h x0 14).bind fun u_1 => ((f_J2_indexOf Ev h x0 x1).bind fun v_4 => (if v_4 < 0 then (f_X1_requiredIn_j15_7 Ev h n v_4 0) else (f_X1_requiredIn_j15_7 Ev h n v_4 1))))
abbrev rm_X1_requiredIn (k s : Nat) : Room := { frames := 7, cells := k, slots := s, locals := 159 }
set_option maxHeartbeats 4000000 in
theorem ct_X1_requiredIn (Ev : rb_E) (h : AH) (n : Nat) (x0 : Nat) (x1 : Int32) (r : Int32 ⊕ (String × Nat)) (h' : AH) (k s : Nat) (hf : f_X1_requiredIn Ev h n x0 x1 = some (r, h', k, s)) : Ct Ev yX1_requiredIn (ws_ yX1_requiredIn cX1_requiredIn 3 (some .int)) (rm_X1_requiredIn k s) [.ref x0, .int x1] h n (pX (rMap (fun v => some (.int v)) r) h' (n + k)) := by
  rw [f_X1_requiredIn] at hf
  refine Ct.of rfl (Nat.le_of_ble_eq_true rfl) fun X C hnm => ?_
  have C : Cx Ev X RX1 cX1_requiredIn 3 (some .int) [] := C
  show Wa Ev X (rm_X1_requiredIn k s) 3 h n 0 0 (rb_MQ Ev X (rm_X1_requiredIn k s) (pX (rMap (fun v => some (.int v)) r) h' (n + k))) 0 [(0, .ref x0), (1, .int x1)] []
  have hb : Bd (n + k) k s n 0 0 k s := ⟨rfl, Nat.le_of_eq (Nat.zero_add _), Nat.le_of_eq (Nat.zero_add _)⟩
  refine rb_aload_n C dX1_requiredIn_0 rfl 0 rfl ?_
  refine rb_iload_n C dX1_requiredIn_1 rfl 1 rfl ?_
  obtain ⟨u_1, e_2, hf⟩ := rb_bd hf
  obtain ⟨v_4, e_5, hf⟩ := rb_bd hf
  refine rb_callV (As := [.int x1]) (rest := []) C mi_J2_indexOf sv_X1_22 (hp_k_isC C.pf e_2 ck_J2) (ct_J2_indexOf Ev h n x0 x1 _ e_5) rfl rfl (Nat.le_of_ble_eq_true rfl) ⟨Nat.le_of_ble_eq_true rfl, Nat.le_of_ble_eq_true rfl, hb.c0, hb.s0⟩ dX1_requiredIn_2 rb_xXi (rb_kXi fun hn_3 => (rb_w (kc := 0) (ks := 0) rfl rfl ?_))
  refine rb_istore_n (lv' := [(2, .int v_4), (0, .ref x0), (1, .int x1)]) C dX1_requiredIn_5 rfl (by decide) rfl ?_
  refine rb_iload_n C dX1_requiredIn_6 rfl 0 rfl ?_
  have J_j15_7 : ∀ (w0_j15_7 : Int32) (kc_j15_7 ks_j15_7 a_ b_ : Nat), f_X1_requiredIn_j15_7 Ev h n v_4 w0_j15_7 = some (r, h', a_, b_) → Bd (n + k) k s n kc_j15_7 ks_j15_7 a_ b_ → Wa Ev X (rm_X1_requiredIn k s) 3 h n kc_j15_7 ks_j15_7 (rb_MQ Ev X (rm_X1_requiredIn k s) (pX (rMap (fun v => some (.int v)) r) h' (n + k))) 15 [(0, .ref x0), (1, .int x1), (2, .int v_4)] [.int w0_j15_7] := by
    intro w0_j15_7 kc_j15_7 ks_j15_7 a_ b_ hf hb
    rw [f_X1_requiredIn_j15_7] at hf
    obtain ⟨⟨r_9, h_10, k_11, s_12⟩, e_13, hf⟩ := rb_bd hf
    obtain ⟨a_16, b_17, hf, ea_14, eb_15⟩ := ad_at hf
    rcases r_9 with v_18 | ⟨E_19, q_20⟩
    · dsimp only at hf
      refine rb_callS (As := [.int w0_j15_7]) (rest := []) C mi_X1_requireArgument ss_X1_28 (ct_X1_requireArgument Ev h n w0_j15_7 (.inl v_18) _ _ _ e_13) rfl rfl (Nat.le_of_ble_eq_true rfl) ⟨Nat.le_of_ble_eq_true rfl, Nat.le_of_ble_eq_true rfl, Bd.c1 hb ea_14, Bd.s1 hb eb_15⟩ dX1_requiredIn_15 rb_xX (rb_kX (r := none) (rb_w (kc := (kc_j15_7 + k_11)) (ks := (ks_j15_7 + s_12)) rfl rfl ?_))
      have hb := Bd.ade hb ea_14 eb_15
      refine rb_iload_n C dX1_requiredIn_18 rfl 2 rfl ?_
      cases hf
      exact rb_iret C rfl rfl hb.e.2.1 hb.e.2.2 dX1_requiredIn_19 ⟨rfl, rfl, hb.e.1⟩
    · dsimp only at hf
      by_cases c_21 : E_19 = "java/lang/IllegalArgumentException"
      · have hf := (if_pos c_21).symm.trans hf
        subst c_21
        refine rb_callS (As := [.int w0_j15_7]) (rest := []) C mi_X1_requireArgument ss_X1_28 (ct_X1_requireArgument Ev h n w0_j15_7 (.inr ("java/lang/IllegalArgumentException", q_20)) _ _ _ e_13) rfl rfl (Nat.le_of_ble_eq_true rfl) ⟨Nat.le_of_ble_eq_true rfl, Nat.le_of_ble_eq_true rfl, Bd.c1 hb ea_14, Bd.s1 hb eb_15⟩ dX1_requiredIn_15 (rb_xY (E := "java/lang/IllegalArgumentException") (rb_wX (kc := (kc_j15_7 + k_11)) (ks := (ks_j15_7 + s_12)) rfl rfl ?_)) rb_kY
        have hb := Bd.ade hb ea_14 eb_15
        cases hf
        exact rb_out C (fun _ z => absurd z List.not_mem_nil) hb.e.2.1 hb.e.2.2 ⟨rfl, rfl, hb.e.1⟩
      have hf := (if_neg c_21).symm.trans hf
      cases hf
  refine rb_if_lt (tgt := 14) C dX1_requiredIn_7 (by decide) (fun c_6 => ?_) (fun c_6 => ?_)
  · have hf := (if_pos c_6).symm.trans hf
    refine rb_iconst (v := 0) C dX1_requiredIn_14 rfl ?_
    refine rb_sub [1, 2, 0] rfl ?_
    exact J_j15_7 0  _ _ _ _ hf hb
  · have hf := (if_neg c_6).symm.trans hf
    refine rb_iconst (v := 1) C dX1_requiredIn_10 rfl ?_
    refine rb_goto (tgt := 15) C dX1_requiredIn_11 (by decide) ?_
    refine rb_sub [1, 2, 0] rfl ?_
    exact J_j15_7 1  _ _ _ _ hf hb
def f_X2_setColour (Ev : rb_E) (h : AH) (n : Nat) (o : Nat) (x1 : Int32) (x2 : Int32) : Option ((Int32 ⊕ (String × Nat)) × AH × Nat × Nat) := ((f_X1_requiredIn Ev h n (eS Ev RX2 64) x1).bind fun (r_2, h_3, k_4, s_5) => (ad k_4 s_5 (match r_2 with | .inl v_11 => ((f_X1_requireArgument Ev h_3 (n + k_4) (f_X1_inRange x2 0 6)).bind fun (r_16, h_17, k_18, s_19) => (ad k_18 s_19 (match r_16 with | .inl v_25 => ((hp_p Ev h_17 o 1 1).bind fun v_28 => ((hp_il Ev h_17 v_28 v_11).bind fun v_30 => ((hp_p Ev h_17 o 1 1).bind fun v_32 => ((hp_is Ev h_17 v_32 v_11 x2).bind fun h_34 => (some (.inl v_30, h_34, 0, 0)))))) | .inr (E_26, q_27) => (if E_26 = "java/lang/IllegalArgumentException" then (some (.inr ("java/lang/IllegalArgumentException", q_27), h_17, 0, 0)) else none)))) | .inr (E_12, q_13) => (if E_12 = "java/lang/IllegalArgumentException" then (some (.inr ("java/lang/IllegalArgumentException", q_13), h_3, 0, 0)) else none))))
abbrev rm_X2_setColour (k s : Nat) : Room := { frames := 8, cells := k, slots := s, locals := 181 }
set_option maxHeartbeats 4000000 in
theorem ct_X2_setColour (Ev : rb_E) (h : AH) (n : Nat) (o : Nat) (x1 : Int32) (x2 : Int32) (r : Int32 ⊕ (String × Nat)) (h' : AH) (k s : Nat) (hf : f_X2_setColour Ev h n o x1 x2 = some (r, h', k, s)) : Ct Ev yX2_setColour (ws_ yX2_setColour cX2_setColour 5 (some .int)) (rm_X2_setColour k s) [.ref o, .int x1, .int x2] h n (pX (rMap (fun v => some (.int v)) r) h' (n + k)) := by
  rw [f_X2_setColour] at hf
  refine Ct.of rfl (Nat.le_of_ble_eq_true rfl) fun X C hnm => ?_
  have C : Cx Ev X RX2 cX2_setColour 5 (some .int) [] := C
  show Wa Ev X (rm_X2_setColour k s) 5 h n 0 0 (rb_MQ Ev X (rm_X2_setColour k s) (pX (rMap (fun v => some (.int v)) r) h' (n + k))) 0 [(0, .ref o), (1, .int x1), (2, .int x2)] []
  have hb : Bd (n + k) k s n 0 0 k s := ⟨rfl, Nat.le_of_eq (Nat.zero_add _), Nat.le_of_eq (Nat.zero_add _)⟩
  refine rb_ldcS C q786 dX2_setColour_0 ?_
  refine rb_iload_n C dX2_setColour_2 rfl 1 rfl ?_
  obtain ⟨⟨r_2, h_3, k_4, s_5⟩, e_6, hf⟩ := rb_bd hf
  obtain ⟨a_9, b_10, hf, ea_7, eb_8⟩ := ad_at hf
  rcases r_2 with v_11 | ⟨E_12, q_13⟩
  · dsimp only at hf
    refine rb_callSN (As := [.ref (eS Ev RX2 64), .int x1]) (rest := []) C mi_X1_requiredIn ss_X2_66 (ct_X1_requiredIn Ev h n (eS Ev RX2 64) x1 (.inl v_11) _ _ _ e_6) rfl rfl (Nat.le_of_ble_eq_true rfl) ⟨Nat.le_of_ble_eq_true rfl, Nat.le_of_ble_eq_true rfl, Bd.c1 hb ea_7, Bd.s1 hb eb_8⟩ dX2_setColour_3 rb_xX (rb_kX (r := some (.int v_11)) (rb_w (kc := (0 + k_4)) (ks := (0 + s_5)) rfl rfl ?_))
    have hb := Bd.ade hb ea_7 eb_8
    refine rb_istore_n (lv' := [(3, .int v_11), (0, .ref o), (1, .int x1), (2, .int x2)]) C dX2_setColour_6 rfl (by decide) rfl ?_
    refine rb_iload_n C dX2_setColour_7 rfl 3 rfl ?_
    refine rb_iconst (v := 0) C dX2_setColour_8 rfl ?_
    refine rb_bipush (v := 6) C dX2_setColour_9 rfl ?_
    refine rb_callSN (As := [.int x2, .int 0, .int 6]) (rest := []) C mi_X1_inRange ss_X2_84 (ct_X1_inRange Ev h_3 (n + k_4) x2 0 6 _ rfl) rfl rfl (Nat.le_of_ble_eq_true rfl) ⟨Nat.le_of_ble_eq_true rfl, Nat.le_of_ble_eq_true rfl, hb.c0, hb.s0⟩ dX2_setColour_11 rb_xXi (rb_kXi fun hn_14 => (rb_w (kc := (0 + k_4)) (ks := (0 + s_5)) rfl rfl ?_))
    obtain ⟨⟨r_16, h_17, k_18, s_19⟩, e_20, hf⟩ := rb_bd hf
    obtain ⟨a_23, b_24, hf, ea_21, eb_22⟩ := ad_at hf
    rcases r_16 with v_25 | ⟨E_26, q_27⟩
    · dsimp only at hf
      refine rb_callSN (As := [.int (f_X1_inRange x2 0 6)]) (rest := []) C mi_X1_requireArgument ss_X2_162 (ct_X1_requireArgument Ev h_3 (n + k_4) (f_X1_inRange x2 0 6) (.inl v_25) _ _ _ e_20) rfl rfl (Nat.le_of_ble_eq_true rfl) ⟨Nat.le_of_ble_eq_true rfl, Nat.le_of_ble_eq_true rfl, Bd.c1 hb ea_21, Bd.s1 hb eb_22⟩ dX2_setColour_14 rb_xX (rb_kX (r := none) (rb_w (kc := ((0 + k_4) + k_18)) (ks := ((0 + s_5) + s_19)) rfl rfl ?_))
      have hb := Bd.ade hb ea_21 eb_22
      refine rb_aload_n C dX2_setColour_17 rfl 1 rfl ?_
      obtain ⟨v_28, e_29, hf⟩ := rb_bd hf
      refine rb_hP C fl_X2_18_X2 e_29 dX2_setColour_18 ?_
      refine rb_iload_n C dX2_setColour_21 rfl 0 rfl ?_
      obtain ⟨v_30, e_31, hf⟩ := rb_bd hf
      refine rb_hil C e_31 dX2_setColour_22 ?_
      refine rb_istore (lv' := [(4, .int v_30), (3, .int v_11), (0, .ref o), (1, .int x1), (2, .int x2)]) C dX2_setColour_23 (by decide) rfl ?_
      refine rb_aload_n C dX2_setColour_25 rfl 2 rfl ?_
      obtain ⟨v_32, e_33, hf⟩ := rb_bd hf
      refine rb_hP C fl_X2_18_X2 e_33 dX2_setColour_26 ?_
      refine rb_iload_n C dX2_setColour_29 rfl 1 rfl ?_
      refine rb_iload_n C dX2_setColour_30 rfl 4 rfl ?_
      obtain ⟨h_34, e_35, hf⟩ := rb_bd hf
      refine rb_his C e_35 dX2_setColour_31 ?_
      refine rb_iload C dX2_setColour_32 0 rfl ?_
      cases hf
      exact rb_iret C rfl rfl hb.e.2.1 hb.e.2.2 dX2_setColour_34 ⟨rfl, rfl, hb.e.1⟩
    · dsimp only at hf
      by_cases c_36 : E_26 = "java/lang/IllegalArgumentException"
      · have hf := (if_pos c_36).symm.trans hf
        subst c_36
        refine rb_callSN (As := [.int (f_X1_inRange x2 0 6)]) (rest := []) C mi_X1_requireArgument ss_X2_162 (ct_X1_requireArgument Ev h_3 (n + k_4) (f_X1_inRange x2 0 6) (.inr ("java/lang/IllegalArgumentException", q_27)) _ _ _ e_20) rfl rfl (Nat.le_of_ble_eq_true rfl) ⟨Nat.le_of_ble_eq_true rfl, Nat.le_of_ble_eq_true rfl, Bd.c1 hb ea_21, Bd.s1 hb eb_22⟩ dX2_setColour_14 (rb_xY (E := "java/lang/IllegalArgumentException") (rb_wX (kc := ((0 + k_4) + k_18)) (ks := ((0 + s_5) + s_19)) rfl rfl ?_)) rb_kY
        have hb := Bd.ade hb ea_21 eb_22
        cases hf
        exact rb_out C (fun _ z => absurd z List.not_mem_nil) hb.e.2.1 hb.e.2.2 ⟨rfl, rfl, hb.e.1⟩
      have hf := (if_neg c_36).symm.trans hf
      cases hf
  · dsimp only at hf
    by_cases c_37 : E_12 = "java/lang/IllegalArgumentException"
    · have hf := (if_pos c_37).symm.trans hf
      subst c_37
      refine rb_callSN (As := [.ref (eS Ev RX2 64), .int x1]) (rest := []) C mi_X1_requiredIn ss_X2_66 (ct_X1_requiredIn Ev h n (eS Ev RX2 64) x1 (.inr ("java/lang/IllegalArgumentException", q_13)) _ _ _ e_6) rfl rfl (Nat.le_of_ble_eq_true rfl) ⟨Nat.le_of_ble_eq_true rfl, Nat.le_of_ble_eq_true rfl, Bd.c1 hb ea_7, Bd.s1 hb eb_8⟩ dX2_setColour_3 (rb_xY (E := "java/lang/IllegalArgumentException") (rb_wX (kc := (0 + k_4)) (ks := (0 + s_5)) rfl rfl ?_)) rb_kY
      have hb := Bd.ade hb ea_7 eb_8
      cases hf
      exact rb_out C (fun _ z => absurd z List.not_mem_nil) hb.e.2.1 hb.e.2.2 ⟨rfl, rfl, hb.e.1⟩
    have hf := (if_neg c_37).symm.trans hf
    cases hf
def f_X3_values (Ev : rb_E) (h : AH) (n : Nat) : Option (Nat × AH × Nat × Nat) := ((hp_sp Ev "RainbowOperators$Meaning" "$VALUES").bind fun v_1 => ((hp_cln Ev h n 7 v_1).bind fun h_3 => ((hp_len Ev h v_1 7).bind fun v_4 => (ad 1 v_4 ((hp_len Ev h_3 n 7).bind fun u_11 => (some (n, h_3, 0, 0)))))))
abbrev rm_X3_values (k s : Nat) : Room := { frames := 1, cells := k, slots := s, locals := 60 }
set_option maxHeartbeats 4000000 in
theorem ct_X3_values (Ev : rb_E) (h : AH) (n : Nat)  (r : Nat) (h' : AH) (k s : Nat) (hf : f_X3_values Ev h n = some (r, h', k, s)) : Ct Ev yX3_values (ws_ yX3_values cX3_values 0 (some (.array (.object "RainbowOperators$Meaning")))) (rm_X3_values k s) [] h n (pX (.inl (some (.ref r))) h' (n + k)) := by
  rw [f_X3_values] at hf
  refine Ct.of rfl (Nat.le_of_ble_eq_true rfl) fun X C hnm => ?_
  have C : Cx Ev X RX3 cX3_values 0 (some (.array (.object "RainbowOperators$Meaning"))) [] := C
  show Wa Ev X (rm_X3_values k s) 0 h n 0 0 (rb_MQ Ev X (rm_X3_values k s) (pX (.inl (some (.ref r))) h' (n + k))) 0 [] []
  have hb : Bd (n + k) k s n 0 0 k s := ⟨rfl, Nat.le_of_eq (Nat.zero_add _), Nat.le_of_eq (Nat.zero_add _)⟩
  obtain ⟨v_1, e_2, hf⟩ := rb_bd hf
  refine rb_hsp C q991 q992 e_2 dX3_values_0 ?_
  obtain ⟨h_3, e_5, hf⟩ := rb_bd hf
  obtain ⟨v_4, e_6, hf⟩ := rb_bd hf
  obtain ⟨a_9, b_10, hf, ea_7, eb_8⟩ := ad_at hf
  refine rb_hcln C 7 q993 q994 q300 q301 q995 q996 an_m rfl e_5 e_6 (Nat.le_of_ble_eq_true rfl) (Nat.le_of_ble_eq_true rfl) (Bd.c1 hb ea_7) (Bd.s1 hb eb_8) dX3_values_3 ?_
  have hb := Bd.ade hb ea_7 eb_8
  obtain ⟨u_11, e_12, hf⟩ := rb_bd hf
  refine rb_hcaA C 7 q997 an_m e_12 dX3_values_6 ?_
  cases hf
  exact rb_aret C rfl (Or.inr ⟨_, rfl⟩) (Or.inr ⟨_, rfl⟩) hb.e.2.1 hb.e.2.2 dX3_values_9 ⟨rfl, rfl, hb.e.1⟩
def f_X3_of (Ev : rb_E) (h : AH) (n : Nat) (x0 : Int32) : Option ((Nat ⊕ (String × Nat)) × AH × Nat × Nat) := ((f_X3_values Ev h n ).bind fun (r_2, h_3, k_4, s_5) => (ad k_4 s_5 ((f_X1_requiredIn Ev h_3 (n + k_4) (eS Ev RX3 47) x0).bind fun (r_12, h_13, k_14, s_15) => (ad k_14 s_15 (match r_12 with | .inl v_21 => ((hp_ap Ev h_13 7 r_2 v_21).bind fun v_24 => (some (.inl v_24, h_13, 0, 0))) | .inr (E_22, q_23) => (if E_22 = "java/lang/IllegalArgumentException" then (some (.inr ("java/lang/IllegalArgumentException", q_23), h_13, 0, 0)) else none))))))
abbrev rm_X3_of (k s : Nat) : Room := { frames := 8, cells := k, slots := s, locals := 181 }
set_option maxHeartbeats 4000000 in
theorem ct_X3_of (Ev : rb_E) (h : AH) (n : Nat) (x0 : Int32) (r : Nat ⊕ (String × Nat)) (h' : AH) (k s : Nat) (hf : f_X3_of Ev h n x0 = some (r, h', k, s)) : Ct Ev yX3_of (ws_ yX3_of cX3_of 1 (some (.object "RainbowOperators$Meaning"))) (rm_X3_of k s) [.int x0] h n (pX (rMap (fun v => some (.ref v)) r) h' (n + k)) := by
  rw [f_X3_of] at hf
  refine Ct.of rfl (Nat.le_of_ble_eq_true rfl) fun X C hnm => ?_
  have C : Cx Ev X RX3 cX3_of 1 (some (.object "RainbowOperators$Meaning")) [] := C
  show Wa Ev X (rm_X3_of k s) 1 h n 0 0 (rb_MQ Ev X (rm_X3_of k s) (pX (rMap (fun v => some (.ref v)) r) h' (n + k))) 0 [(0, .int x0)] []
  have hb : Bd (n + k) k s n 0 0 k s := ⟨rfl, Nat.le_of_eq (Nat.zero_add _), Nat.le_of_eq (Nat.zero_add _)⟩
  obtain ⟨⟨r_2, h_3, k_4, s_5⟩, e_6, hf⟩ := rb_bd hf
  obtain ⟨a_9, b_10, hf, ea_7, eb_8⟩ := ad_at hf
  refine rb_callS (As := []) (rest := []) C mi_X3_values ss_X3_43 (ct_X3_values Ev h n  r_2 _ _ _ e_6) rfl rfl (Nat.le_of_ble_eq_true rfl) ⟨Nat.le_of_ble_eq_true rfl, Nat.le_of_ble_eq_true rfl, Bd.c1 hb ea_7, Bd.s1 hb eb_8⟩ dX3_of_0 rb_xX (rb_kX (rb_w (kc := (0 + k_4)) (ks := (0 + s_5)) rfl rfl ?_))
  have hb := Bd.ade hb ea_7 eb_8
  refine rb_ldcS C q998 dX3_of_3 ?_
  refine rb_iload_n C dX3_of_5 rfl 0 rfl ?_
  obtain ⟨⟨r_12, h_13, k_14, s_15⟩, e_16, hf⟩ := rb_bd hf
  obtain ⟨a_19, b_20, hf, ea_17, eb_18⟩ := ad_at hf
  rcases r_12 with v_21 | ⟨E_22, q_23⟩
  · dsimp only at hf
    refine rb_callSN (As := [.ref (eS Ev RX3 47), .int x0]) (rest := [.ref r_2]) C mi_X1_requiredIn ss_X3_49 (ct_X1_requiredIn Ev h_3 (n + k_4) (eS Ev RX3 47) x0 (.inl v_21) _ _ _ e_16) rfl rfl (Nat.le_of_ble_eq_true rfl) ⟨Nat.le_of_ble_eq_true rfl, Nat.le_of_ble_eq_true rfl, Bd.c1 hb ea_17, Bd.s1 hb eb_18⟩ dX3_of_6 rb_xX (rb_kX (r := some (.int v_21)) (rb_w (kc := ((0 + k_4) + k_14)) (ks := ((0 + s_5) + s_15)) rfl rfl ?_))
    have hb := Bd.ade hb ea_17 eb_18
    obtain ⟨v_24, e_25, hf⟩ := rb_bd hf
    refine rb_hap C 7 rfl rfl e_25 dX3_of_9 ?_
    cases hf
    exact rb_aret C rfl (Or.inl ⟨_, rfl⟩) (Or.inr ⟨_, rfl⟩) hb.e.2.1 hb.e.2.2 dX3_of_10 ⟨rfl, rfl, hb.e.1⟩
  · dsimp only at hf
    by_cases c_26 : E_22 = "java/lang/IllegalArgumentException"
    · have hf := (if_pos c_26).symm.trans hf
      subst c_26
      refine rb_callSN (As := [.ref (eS Ev RX3 47), .int x0]) (rest := [.ref r_2]) C mi_X1_requiredIn ss_X3_49 (ct_X1_requiredIn Ev h_3 (n + k_4) (eS Ev RX3 47) x0 (.inr ("java/lang/IllegalArgumentException", q_23)) _ _ _ e_16) rfl rfl (Nat.le_of_ble_eq_true rfl) ⟨Nat.le_of_ble_eq_true rfl, Nat.le_of_ble_eq_true rfl, Bd.c1 hb ea_17, Bd.s1 hb eb_18⟩ dX3_of_6 (rb_xY (E := "java/lang/IllegalArgumentException") (rb_wX (kc := ((0 + k_4) + k_14)) (ks := ((0 + s_5) + s_15)) rfl rfl ?_)) rb_kY
      have hb := Bd.ade hb ea_17 eb_18
      cases hf
      exact rb_out C (fun _ z => absurd z List.not_mem_nil) hb.e.2.1 hb.e.2.2 ⟨rfl, rfl, hb.e.1⟩
    have hf := (if_neg c_26).symm.trans hf
    cases hf
def f_J4_ordinal (Ev : rb_E) (h : AH) (o : Nat) : Option Int32 := ((hp_en Ev o).bind fun k_1 => (some (nI k_1)))
abbrev rm_J4_ordinal : Room := { frames := 0, cells := 0, slots := 0, locals := 0 }
set_option maxHeartbeats 4000000 in
theorem ct_J4_ordinal (Ev : rb_E) (h : AH) (n : Nat) (o : Nat) (r : Int32) (hf : f_J4_ordinal Ev h o = some r) : Ct Ev yJ4_ordinal (ws_ yJ4_ordinal cJ4_ordinal 1 (some .int)) (rm_J4_ordinal) [.ref o] h n (pXi .int r h n) := by
  rw [f_J4_ordinal] at hf
  refine Ct.of rfl (Nat.le_of_ble_eq_true rfl) fun X C hnm => ?_
  have C : Cx Ev X RJ4 cJ4_ordinal 1 (some .int) [] := C
  show Wa Ev X (rm_J4_ordinal) 1 h n 0 0 (rb_MQ Ev X (rm_J4_ordinal) (pXi .int r h n)) 0 [(0, .ref o)] []
  refine rb_aload_n C dJ4_ordinal_0 rfl 0 rfl ?_
  obtain ⟨k_1, e_2, hf⟩ := rb_bd hf
  refine rb_getE C q2863 e_2 dJ4_ordinal_1 ?_
  cases hf
  exact rb_iret C rfl rfl (Nat.zero_le _) (Nat.zero_le _) dJ4_ordinal_4 ⟨rfl, rfl, rfl, rfl⟩
def f_X3_sign (Ev : rb_E) (h : AH) (o : Nat) : Option Int32 := ((hp_en Ev o).bind fun k_1 => ((f_J4_ordinal Ev h o).bind fun v_4 => ((hp_k Ev h (eS Ev RX3 47) 14).bind fun u_6 => ((f_J2_charAt Ev h (eS Ev RX3 47) v_4).bind fun v_9 => (some v_9)))))
abbrev rm_X3_sign : Room := { frames := 5, cells := 0, slots := 0, locals := 106 }
set_option maxHeartbeats 4000000 in
theorem ct_X3_sign (Ev : rb_E) (h : AH) (n : Nat) (o : Nat) (r : Int32) (hf : f_X3_sign Ev h o = some r) : Ct Ev yX3_sign (ws_ yX3_sign cX3_sign 1 (some .char)) (rm_X3_sign) [.ref o] h n (pXi .char r h n) := by
  rw [f_X3_sign] at hf
  refine Ct.of rfl (Nat.le_of_ble_eq_true rfl) fun X C hnm => ?_
  have C : Cx Ev X RX3 cX3_sign 1 (some .char) [] := C
  show Wa Ev X (rm_X3_sign) 1 h n 0 0 (rb_MQ Ev X (rm_X3_sign) (pXi .char r h n)) 0 [(0, .ref o)] []
  refine rb_ldcS C q998 dX3_sign_0 ?_
  refine rb_aload_n C dX3_sign_2 rfl 0 rfl ?_
  obtain ⟨k_1, e_2, hf⟩ := rb_bd hf
  obtain ⟨v_4, e_5, hf⟩ := rb_bd hf
  refine rb_callU (As := []) (rest := [.ref (eS Ev RX3 47)]) C mi_J4_ordinal (eu_X3_53 _ (hp_en_at e_2).1) (hp_en_isC e_2) (ct_J4_ordinal Ev h n o _ e_5) rfl rfl (Nat.le_of_ble_eq_true rfl) ⟨Nat.le_of_ble_eq_true rfl, Nat.le_of_ble_eq_true rfl, (Nat.zero_le _), (Nat.zero_le _)⟩ dX3_sign_3 rb_xXi (rb_kXi fun hn_3 => (rb_w (kc := 0) (ks := 0) rfl rfl ?_))
  obtain ⟨u_6, e_7, hf⟩ := rb_bd hf
  obtain ⟨v_9, e_10, hf⟩ := rb_bd hf
  refine rb_callV (As := [.int v_4]) (rest := []) C mi_J2_charAt sv_X3_57 (hp_k_isC C.pf e_7 ck_J2) (ct_J2_charAt Ev h n (eS Ev RX3 47) v_4 _ e_10) rfl rfl (Nat.le_of_ble_eq_true rfl) ⟨Nat.le_of_ble_eq_true rfl, Nat.le_of_ble_eq_true rfl, (Nat.zero_le _), (Nat.zero_le _)⟩ dX3_sign_6 rb_xXi (rb_kXi fun hn_8 => (rb_w (kc := 0) (ks := 0) rfl rfl ?_))
  cases hf
  exact rb_iret C rfl hn_8 (Nat.zero_le _) (Nat.zero_le _) dX3_sign_9 ⟨rfl, rfl, rfl, hn_8⟩
def f_X2_setMeaning (Ev : rb_E) (h : AH) (n : Nat) (o : Nat) (x1 : Int32) (x2 : Int32) : Option ((Int32 ⊕ (String × Nat)) × AH × Nat × Nat) := ((f_X1_requiredIn Ev h n (eS Ev RX2 70) x1).bind fun (r_2, h_3, k_4, s_5) => (ad k_4 s_5 (match r_2 with | .inl v_11 => ((f_X3_of Ev h_3 (n + k_4) x2).bind fun (r_15, h_16, k_17, s_18) => (ad k_17 s_18 (match r_15 with | .inl v_24 => ((hp_p Ev h_16 o 1 2).bind fun v_27 => ((hp_ap Ev h_16 7 v_27 v_11).bind fun v_29 => ((hp_en Ev v_29).bind fun k_31 => ((f_X3_sign Ev h_16 v_29).bind fun v_34 => ((hp_p Ev h_16 o 1 2).bind fun v_36 => ((hp_en Ev v_24).bind fun u_39 => ((hp_as Ev h_16 7 v_36 v_11 (some v_24)).bind fun h_38 => (some (.inl v_34, h_38, 0, 0))))))))) | .inr (E_25, q_26) => (if E_25 = "java/lang/IllegalArgumentException" then (some (.inr ("java/lang/IllegalArgumentException", q_26), h_16, 0, 0)) else none)))) | .inr (E_12, q_13) => (if E_12 = "java/lang/IllegalArgumentException" then (some (.inr ("java/lang/IllegalArgumentException", q_13), h_3, 0, 0)) else none))))
abbrev rm_X2_setMeaning (k s : Nat) : Room := { frames := 9, cells := k, slots := s, locals := 201 }
set_option maxHeartbeats 4000000 in
theorem ct_X2_setMeaning (Ev : rb_E) (h : AH) (n : Nat) (o : Nat) (x1 : Int32) (x2 : Int32) (r : Int32 ⊕ (String × Nat)) (h' : AH) (k s : Nat) (hf : f_X2_setMeaning Ev h n o x1 x2 = some (r, h', k, s)) : Ct Ev yX2_setMeaning (ws_ yX2_setMeaning cX2_setMeaning 6 (some .int)) (rm_X2_setMeaning k s) [.ref o, .int x1, .int x2] h n (pX (rMap (fun v => some (.int v)) r) h' (n + k)) := by
  rw [f_X2_setMeaning] at hf
  refine Ct.of rfl (Nat.le_of_ble_eq_true rfl) fun X C hnm => ?_
  have C : Cx Ev X RX2 cX2_setMeaning 6 (some .int) [] := C
  show Wa Ev X (rm_X2_setMeaning k s) 6 h n 0 0 (rb_MQ Ev X (rm_X2_setMeaning k s) (pX (rMap (fun v => some (.int v)) r) h' (n + k))) 0 [(0, .ref o), (1, .int x1), (2, .int x2)] []
  have hb : Bd (n + k) k s n 0 0 k s := ⟨rfl, Nat.le_of_eq (Nat.zero_add _), Nat.le_of_eq (Nat.zero_add _)⟩
  refine rb_ldcS C q897 dX2_setMeaning_0 ?_
  refine rb_iload_n C dX2_setMeaning_2 rfl 1 rfl ?_
  obtain ⟨⟨r_2, h_3, k_4, s_5⟩, e_6, hf⟩ := rb_bd hf
  obtain ⟨a_9, b_10, hf, ea_7, eb_8⟩ := ad_at hf
  rcases r_2 with v_11 | ⟨E_12, q_13⟩
  · dsimp only at hf
    refine rb_callSN (As := [.ref (eS Ev RX2 70), .int x1]) (rest := []) C mi_X1_requiredIn ss_X2_66 (ct_X1_requiredIn Ev h n (eS Ev RX2 70) x1 (.inl v_11) _ _ _ e_6) rfl rfl (Nat.le_of_ble_eq_true rfl) ⟨Nat.le_of_ble_eq_true rfl, Nat.le_of_ble_eq_true rfl, Bd.c1 hb ea_7, Bd.s1 hb eb_8⟩ dX2_setMeaning_3 rb_xX (rb_kX (r := some (.int v_11)) (rb_w (kc := (0 + k_4)) (ks := (0 + s_5)) rfl rfl ?_))
    have hb := Bd.ade hb ea_7 eb_8
    refine rb_istore_n (lv' := [(3, .int v_11), (0, .ref o), (1, .int x1), (2, .int x2)]) C dX2_setMeaning_6 rfl (by decide) rfl ?_
    refine rb_iload_n C dX2_setMeaning_7 rfl 3 rfl ?_
    obtain ⟨⟨r_15, h_16, k_17, s_18⟩, e_19, hf⟩ := rb_bd hf
    obtain ⟨a_22, b_23, hf, ea_20, eb_21⟩ := ad_at hf
    rcases r_15 with v_24 | ⟨E_25, q_26⟩
    · dsimp only at hf
      refine rb_callS (As := [.int x2]) (rest := []) C mi_X3_of ss_X2_181 (ct_X3_of Ev h_3 (n + k_4) x2 (.inl v_24) _ _ _ e_19) rfl rfl (Nat.le_of_ble_eq_true rfl) ⟨Nat.le_of_ble_eq_true rfl, Nat.le_of_ble_eq_true rfl, Bd.c1 hb ea_20, Bd.s1 hb eb_21⟩ dX2_setMeaning_8 rb_xX (rb_kX (r := some (.ref v_24)) (rb_w (kc := ((0 + k_4) + k_17)) (ks := ((0 + s_5) + s_18)) rfl rfl ?_))
      have hb := Bd.ade hb ea_20 eb_21
      refine rb_astore (lv' := [(4, .ref v_24), (3, .int v_11), (0, .ref o), (1, .int x1), (2, .int x2)]) C dX2_setMeaning_11 (by decide) rfl ?_
      refine rb_aload_n C dX2_setMeaning_13 rfl 2 rfl ?_
      obtain ⟨v_27, e_28, hf⟩ := rb_bd hf
      refine rb_hP C fl_X2_43_X2 e_28 dX2_setMeaning_14 ?_
      refine rb_iload_n C dX2_setMeaning_17 rfl 1 rfl ?_
      obtain ⟨v_29, e_30, hf⟩ := rb_bd hf
      refine rb_hap C 7 rfl rfl e_30 dX2_setMeaning_18 ?_
      obtain ⟨k_31, e_32, hf⟩ := rb_bd hf
      obtain ⟨v_34, e_35, hf⟩ := rb_bd hf
      refine rb_callU (As := []) (rest := []) C mi_X3_sign (eu_X2_184 _ (hp_en_at e_32).1) (hp_en_isC e_32) (ct_X3_sign Ev h_16 ((n + k_4) + k_17) v_29 _ e_35) rfl rfl (Nat.le_of_ble_eq_true rfl) ⟨Nat.le_of_ble_eq_true rfl, Nat.le_of_ble_eq_true rfl, hb.c0, hb.s0⟩ dX2_setMeaning_19 rb_xXi (rb_kXi fun hn_33 => (rb_w (kc := ((0 + k_4) + k_17)) (ks := ((0 + s_5) + s_18)) rfl rfl ?_))
      refine rb_istore (lv' := [(5, .int v_34), (4, .ref v_24), (3, .int v_11), (0, .ref o), (1, .int x1), (2, .int x2)]) C dX2_setMeaning_22 (by decide) rfl ?_
      refine rb_aload_n C dX2_setMeaning_24 rfl 3 rfl ?_
      obtain ⟨v_36, e_37, hf⟩ := rb_bd hf
      refine rb_hP C fl_X2_43_X2 e_37 dX2_setMeaning_25 ?_
      refine rb_iload_n C dX2_setMeaning_28 rfl 2 rfl ?_
      refine rb_aload C dX2_setMeaning_29 1 rfl ?_
      obtain ⟨u_39, e_40, hf⟩ := rb_bd hf
      obtain ⟨h_38, e_41, hf⟩ := rb_bd hf
      refine rb_hasE C 7 rfl en_ok e_40 e_41 dX2_setMeaning_31 ?_
      refine rb_iload C dX2_setMeaning_32 0 rfl ?_
      cases hf
      exact rb_iret C rfl rfl hb.e.2.1 hb.e.2.2 dX2_setMeaning_34 ⟨rfl, rfl, hb.e.1⟩
    · dsimp only at hf
      by_cases c_42 : E_25 = "java/lang/IllegalArgumentException"
      · have hf := (if_pos c_42).symm.trans hf
        subst c_42
        refine rb_callS (As := [.int x2]) (rest := []) C mi_X3_of ss_X2_181 (ct_X3_of Ev h_3 (n + k_4) x2 (.inr ("java/lang/IllegalArgumentException", q_26)) _ _ _ e_19) rfl rfl (Nat.le_of_ble_eq_true rfl) ⟨Nat.le_of_ble_eq_true rfl, Nat.le_of_ble_eq_true rfl, Bd.c1 hb ea_20, Bd.s1 hb eb_21⟩ dX2_setMeaning_8 (rb_xY (E := "java/lang/IllegalArgumentException") (rb_wX (kc := ((0 + k_4) + k_17)) (ks := ((0 + s_5) + s_18)) rfl rfl ?_)) rb_kY
        have hb := Bd.ade hb ea_20 eb_21
        cases hf
        exact rb_out C (fun _ z => absurd z List.not_mem_nil) hb.e.2.1 hb.e.2.2 ⟨rfl, rfl, hb.e.1⟩
      have hf := (if_neg c_42).symm.trans hf
      cases hf
  · dsimp only at hf
    by_cases c_43 : E_12 = "java/lang/IllegalArgumentException"
    · have hf := (if_pos c_43).symm.trans hf
      subst c_43
      refine rb_callSN (As := [.ref (eS Ev RX2 70), .int x1]) (rest := []) C mi_X1_requiredIn ss_X2_66 (ct_X1_requiredIn Ev h n (eS Ev RX2 70) x1 (.inr ("java/lang/IllegalArgumentException", q_13)) _ _ _ e_6) rfl rfl (Nat.le_of_ble_eq_true rfl) ⟨Nat.le_of_ble_eq_true rfl, Nat.le_of_ble_eq_true rfl, Bd.c1 hb ea_7, Bd.s1 hb eb_8⟩ dX2_setMeaning_3 (rb_xY (E := "java/lang/IllegalArgumentException") (rb_wX (kc := (0 + k_4)) (ks := (0 + s_5)) rfl rfl ?_)) rb_kY
      have hb := Bd.ade hb ea_7 eb_8
      cases hf
      exact rb_out C (fun _ z => absurd z List.not_mem_nil) hb.e.2.1 hb.e.2.2 ⟨rfl, rfl, hb.e.1⟩
    have hf := (if_neg c_43).symm.trans hf
    cases hf
def f_X1_requireIndex (Ev : rb_E) (h : AH) (n : Nat) (x0 : Int32) (x1 : Int32) : Option ((Unit ⊕ (String × Nat)) × AH × Nat × Nat) := (if (f_X1_inRange x0 0 (x1 - 1)) = 0 then (some (.inr ("java/lang/IndexOutOfBoundsException", n), h, 1, 6)) else (some (.inl (), h, 0, 0)))
abbrev rm_X1_requireIndex (k s : Nat) : Room := { frames := 6, cells := k, slots := s, locals := 89 }
set_option maxHeartbeats 4000000 in
theorem ct_X1_requireIndex (Ev : rb_E) (h : AH) (n : Nat) (x0 : Int32) (x1 : Int32) (r : Unit ⊕ (String × Nat)) (h' : AH) (k s : Nat) (hf : f_X1_requireIndex Ev h n x0 x1 = some (r, h', k, s)) : Ct Ev yX1_requireIndex (ws_ yX1_requireIndex cX1_requireIndex 2 none) (rm_X1_requireIndex k s) [.int x0, .int x1] h n (pX (rMap (fun _ => none) r) h' (n + k)) := by
  rw [f_X1_requireIndex] at hf
  refine Ct.of rfl (Nat.le_of_ble_eq_true rfl) fun X C hnm => ?_
  have C : Cx Ev X RX1 cX1_requireIndex 2 none [] := C
  show Wa Ev X (rm_X1_requireIndex k s) 2 h n 0 0 (rb_MQ Ev X (rm_X1_requireIndex k s) (pX (rMap (fun _ => none) r) h' (n + k))) 0 [(0, .int x0), (1, .int x1)] []
  have hb : Bd (n + k) k s n 0 0 k s := ⟨rfl, Nat.le_of_eq (Nat.zero_add _), Nat.le_of_eq (Nat.zero_add _)⟩
  refine rb_iload_n C dX1_requireIndex_0 rfl 0 rfl ?_
  refine rb_iconst (v := 0) C dX1_requireIndex_1 rfl ?_
  refine rb_iload_n C dX1_requireIndex_2 rfl 1 rfl ?_
  refine rb_iconst (v := 1) C dX1_requireIndex_3 rfl ?_
  refine rb_isub C dX1_requireIndex_4 ?_
  refine rb_callS (As := [.int x0, .int 0, .int (x1 - 1)]) (rest := []) C mi_X1_inRange ss_X1_7 (ct_X1_inRange Ev h n x0 0 (x1 - 1) _ rfl) rfl rfl (Nat.le_of_ble_eq_true rfl) ⟨Nat.le_of_ble_eq_true rfl, Nat.le_of_ble_eq_true rfl, hb.c0, hb.s0⟩ dX1_requireIndex_5 rb_xXi (rb_kXi fun hn_1 => (rb_w (kc := 0) (ks := 0) rfl rfl ?_))
  refine rb_if_ne (tgt := 19) C dX1_requireIndex_8 (by decide) (fun c_2 => ?_) (fun c_2 => ?_)
  · have hf := (if_neg c_2).symm.trans hf
    cases hf
    exact rb_vret C rfl hb.e.2.1 hb.e.2.2 dX1_requireIndex_19 ⟨rfl, rfl, hb.e.1⟩
  · have hf := (if_pos c_2).symm.trans hf
    cases hf
    exact rb_hthrow0 C t0_X1_15 t0_X1_15k dX1_requireIndex_11 dX1_requireIndex_14 dX1_requireIndex_15 dX1_requireIndex_18 (fun _ z => absurd z List.not_mem_nil) (Nat.le_of_ble_eq_true rfl) (Nat.le_of_ble_eq_true rfl) (by have := hb.e.2.1; exact this) (by have := hb.e.2.2; exact this) ⟨rfl, rfl, (by have := hb.e.1; exact this)⟩
def f_X2_turnStorm_j64_33 (Ev : rb_E) (y2_l40_28 : Int32) (y5_l40_28 : Int32) (h_l40_28 : AH) (n_l40_28 : Nat) (rec_l40_28 : Int32 → Int32 → AH → Nat → Option ((Int32 ⊕ (String × Nat)) × AH × Nat × Nat)) (w0_j64_33 : Int32) : Option ((Int32 ⊕ (String × Nat)) × AH × Nat × Nat) := (rec_l40_28 (y2_l40_28 + w0_j64_33) (y5_l40_28 + 1) h_l40_28 n_l40_28)
def f_X2_turnStorm_l40_28 (Ev : rb_E) (v_24 : Nat) (v_26 : Nat) : Nat → Int32 → Int32 → AH → Nat → Option ((Int32 ⊕ (String × Nat)) × AH × Nat × Nat)
  | 0, _, _, _, _ => none
  | k_l40_28 + 1, y2_l40_28, y5_l40_28, h_l40_28, n_l40_28 => (if (nI v_26) ≤ y5_l40_28 then (some (.inl y2_l40_28, h_l40_28, 0, 0)) else ((hp_zl Ev h_l40_28 v_24 y5_l40_28).bind fun v_30 => (if v_30 = 0 then (f_X2_turnStorm_j64_33 Ev y2_l40_28 y5_l40_28 h_l40_28 n_l40_28 (f_X2_turnStorm_l40_28 Ev v_24 v_26 k_l40_28) 0) else (f_X2_turnStorm_j64_33 Ev y2_l40_28 y5_l40_28 h_l40_28 n_l40_28 (f_X2_turnStorm_l40_28 Ev v_24 v_26 k_l40_28) 1))))
def f_X2_turnStorm_j25_21 (Ev : rb_E) (o : Nat) (x1 : Int32) (n : Nat) (h_3 : AH) (k_4 : Nat) (v_14 : Nat) (w0_j25_21 : Int32) : Option ((Int32 ⊕ (String × Nat)) × AH × Nat × Nat) := ((hp_zs Ev h_3 v_14 x1 w0_j25_21).bind fun h_22 => ((hp_p Ev h_22 o 1 3).bind fun v_24 => ((hp_len Ev h_22 v_24 2).bind fun v_26 => (f_X2_turnStorm_l40_28 Ev v_24 v_26 4096 0 0 h_22 (n + k_4)))))
def f_X2_turnStorm (Ev : rb_E) (h : AH) (n : Nat) (o : Nat) (x1 : Int32) : Option ((Int32 ⊕ (String × Nat)) × AH × Nat × Nat) := ((f_X1_requireIndex Ev h n x1 7).bind fun (r_2, h_3, k_4, s_5) => (ad k_4 s_5 (match r_2 with | .inl v_11 => ((hp_p Ev h_3 o 1 3).bind fun v_14 => ((hp_p Ev h_3 o 1 3).bind fun v_16 => ((hp_zl Ev h_3 v_16 x1).bind fun v_18 => (if v_18 = 0 then (f_X2_turnStorm_j25_21 Ev o x1 n h_3 k_4 v_14 1) else (f_X2_turnStorm_j25_21 Ev o x1 n h_3 k_4 v_14 0))))) | .inr (E_12, q_13) => (if E_12 = "java/lang/IndexOutOfBoundsException" then (some (.inr ("java/lang/IndexOutOfBoundsException", q_13), h_3, 0, 0)) else none))))
abbrev rm_X2_turnStorm (k s : Nat) : Room := { frames := 7, cells := k, slots := s, locals := 110 }
set_option maxHeartbeats 4000000 in
theorem ct_X2_turnStorm (Ev : rb_E) (h : AH) (n : Nat) (o : Nat) (x1 : Int32) (r : Int32 ⊕ (String × Nat)) (h' : AH) (k s : Nat) (hf : f_X2_turnStorm Ev h n o x1 = some (r, h', k, s)) : Ct Ev yX2_turnStorm (ws_ yX2_turnStorm cX2_turnStorm 7 (some .int)) (rm_X2_turnStorm k s) [.ref o, .int x1] h n (pX (rMap (fun v => some (.int v)) r) h' (n + k)) := by
  rw [f_X2_turnStorm] at hf
  refine Ct.of rfl (Nat.le_of_ble_eq_true rfl) fun X C hnm => ?_
  have C : Cx Ev X RX2 cX2_turnStorm 7 (some .int) [] := C
  show Wa Ev X (rm_X2_turnStorm k s) 7 h n 0 0 (rb_MQ Ev X (rm_X2_turnStorm k s) (pX (rMap (fun v => some (.int v)) r) h' (n + k))) 0 [(0, .ref o), (1, .int x1)] []
  have hb : Bd (n + k) k s n 0 0 k s := ⟨rfl, Nat.le_of_eq (Nat.zero_add _), Nat.le_of_eq (Nat.zero_add _)⟩
  refine rb_iload_n C dX2_turnStorm_0 rfl 1 rfl ?_
  refine rb_bipush (v := 7) C dX2_turnStorm_1 rfl ?_
  obtain ⟨⟨r_2, h_3, k_4, s_5⟩, e_6, hf⟩ := rb_bd hf
  obtain ⟨a_9, b_10, hf, ea_7, eb_8⟩ := ad_at hf
  rcases r_2 with v_11 | ⟨E_12, q_13⟩
  · dsimp only at hf
    refine rb_callSN (As := [.int x1, .int 7]) (rest := []) C mi_X1_requireIndex ss_X2_187 (ct_X1_requireIndex Ev h n x1 7 (.inl v_11) _ _ _ e_6) rfl rfl (Nat.le_of_ble_eq_true rfl) ⟨Nat.le_of_ble_eq_true rfl, Nat.le_of_ble_eq_true rfl, Bd.c1 hb ea_7, Bd.s1 hb eb_8⟩ dX2_turnStorm_3 rb_xX (rb_kX (r := none) (rb_w (kc := (0 + k_4)) (ks := (0 + s_5)) rfl rfl ?_))
    have hb := Bd.ade hb ea_7 eb_8
    refine rb_aload_n C dX2_turnStorm_6 rfl 0 rfl ?_
    obtain ⟨v_14, e_15, hf⟩ := rb_bd hf
    refine rb_hP C fl_X2_47_X2 e_15 dX2_turnStorm_7 ?_
    refine rb_iload_n C dX2_turnStorm_10 rfl 1 rfl ?_
    refine rb_aload_n C dX2_turnStorm_11 rfl 0 rfl ?_
    obtain ⟨v_16, e_17, hf⟩ := rb_bd hf
    refine rb_hP C fl_X2_47_X2 e_17 dX2_turnStorm_12 ?_
    refine rb_iload_n C dX2_turnStorm_15 rfl 1 rfl ?_
    obtain ⟨v_18, e_19, hf⟩ := rb_bd hf
    refine rb_hzl C e_19 dX2_turnStorm_16 ?_
    have J_j25_21 : ∀ (w0_j25_21 : Int32) (kc_j25_21 ks_j25_21 a_ b_ : Nat), f_X2_turnStorm_j25_21 Ev o x1 n h_3 k_4 v_14 w0_j25_21 = some (r, h', a_, b_) → Bd (n + k) k s (n + k_4) kc_j25_21 ks_j25_21 a_ b_ → Wa Ev X (rm_X2_turnStorm k s) 7 h_3 (n + k_4) kc_j25_21 ks_j25_21 (rb_MQ Ev X (rm_X2_turnStorm k s) (pX (rMap (fun v => some (.int v)) r) h' (n + k))) 25 [(0, .ref o), (1, .int x1)] [.int w0_j25_21, .int x1, .ref v_14] := by
      intro w0_j25_21 kc_j25_21 ks_j25_21 a_ b_ hf hb
      rw [f_X2_turnStorm_j25_21] at hf
      obtain ⟨h_22, e_23, hf⟩ := rb_bd hf
      refine rb_hzs C e_23 dX2_turnStorm_25 ?_
      refine rb_iconst (v := 0) C dX2_turnStorm_26 rfl ?_
      refine rb_istore_n (lv' := [(2, .int 0), (0, .ref o), (1, .int x1)]) C dX2_turnStorm_27 rfl (by decide) rfl ?_
      refine rb_aload_n C dX2_turnStorm_28 rfl 1 rfl ?_
      obtain ⟨v_24, e_25, hf⟩ := rb_bd hf
      refine rb_hP C fl_X2_47_X2 e_25 dX2_turnStorm_29 ?_
      refine rb_astore_n (lv' := [(3, .ref v_24), (2, .int 0), (0, .ref o), (1, .int x1)]) C dX2_turnStorm_32 rfl (by decide) rfl ?_
      refine rb_aload_n C dX2_turnStorm_33 rfl 0 rfl ?_
      obtain ⟨v_26, e_27, hf⟩ := rb_bd hf
      refine rb_hlen (t := 2) C rfl e_27 dX2_turnStorm_34 ?_
      refine rb_istore (lv' := [(4, .int (nI v_26)), (3, .ref v_24), (2, .int 0), (0, .ref o), (1, .int x1)]) C dX2_turnStorm_35 (by decide) rfl ?_
      refine rb_iconst (v := 0) C dX2_turnStorm_37 rfl ?_
      refine rb_istore (lv' := [(5, .int 0), (4, .int (nI v_26)), (3, .ref v_24), (2, .int 0), (0, .ref o), (1, .int x1)]) C dX2_turnStorm_38 (by decide) rfl ?_
      have L_l40_28 : ∀ (k_l40_28 : Nat) (y2_l40_28 : Int32) (y5_l40_28 : Int32) (h_l40_28 : AH) (n_l40_28 kc_l40_28 ks_l40_28 a_ b_ : Nat), f_X2_turnStorm_l40_28 Ev v_24 v_26 k_l40_28 y2_l40_28 y5_l40_28 h_l40_28 n_l40_28 = some (r, h', a_, b_) → Bd (n + k) k s n_l40_28 kc_l40_28 ks_l40_28 a_ b_ → Wa Ev X (rm_X2_turnStorm k s) 7 h_l40_28 n_l40_28 kc_l40_28 ks_l40_28 (rb_MQ Ev X (rm_X2_turnStorm k s) (pX (rMap (fun v => some (.int v)) r) h' (n + k))) 40 [(0, .ref o), (1, .int x1), (2, .int y2_l40_28), (3, .ref v_24), (4, .int (nI v_26)), (5, .int y5_l40_28)] [] := by
        intro k_l40_28
        induction k_l40_28 with
        | zero => intro y2_l40_28 y5_l40_28 h_l40_28 n_l40_28 kc_l40_28 ks_l40_28 a_ b_ hf hb; cases hf
        | succ k_l40_28 ih_l40_28 =>
          intro y2_l40_28 y5_l40_28 h_l40_28 n_l40_28 kc_l40_28 ks_l40_28 a_ b_ hf hb
          rw [f_X2_turnStorm_l40_28] at hf
          refine rb_iload C dX2_turnStorm_40 5 rfl ?_
          refine rb_iload C dX2_turnStorm_42 4 rfl ?_
          refine rb_icmp_ge (tgt := 72) C dX2_turnStorm_44 (by decide) (fun c_29 => ?_) (fun c_29 => ?_)
          · have hf := (if_pos c_29).symm.trans hf
            refine rb_iload_n C dX2_turnStorm_72 rfl 2 rfl ?_
            cases hf
            exact rb_iret C rfl rfl hb.e.2.1 hb.e.2.2 dX2_turnStorm_73 ⟨rfl, rfl, hb.e.1⟩
          · have hf := (if_neg c_29).symm.trans hf
            refine rb_aload_n C dX2_turnStorm_47 rfl 3 rfl ?_
            refine rb_iload C dX2_turnStorm_48 5 rfl ?_
            obtain ⟨v_30, e_31, hf⟩ := rb_bd hf
            refine rb_hzl C e_31 dX2_turnStorm_50 ?_
            refine rb_istore (lv' := [(6, .int v_30), (0, .ref o), (1, .int x1), (2, .int y2_l40_28), (3, .ref v_24), (4, .int (nI v_26)), (5, .int y5_l40_28)]) C dX2_turnStorm_51 (by decide) rfl ?_
            refine rb_iload_n C dX2_turnStorm_53 rfl 3 rfl ?_
            refine rb_iload C dX2_turnStorm_54 0 rfl ?_
            have J_j64_33 : ∀ (w0_j64_33 : Int32) (kc_j64_33 ks_j64_33 a_ b_ : Nat), f_X2_turnStorm_j64_33 Ev y2_l40_28 y5_l40_28 h_l40_28 n_l40_28 (f_X2_turnStorm_l40_28 Ev v_24 v_26 k_l40_28) w0_j64_33 = some (r, h', a_, b_) → Bd (n + k) k s n_l40_28 kc_j64_33 ks_j64_33 a_ b_ → Wa Ev X (rm_X2_turnStorm k s) 7 h_l40_28 n_l40_28 kc_j64_33 ks_j64_33 (rb_MQ Ev X (rm_X2_turnStorm k s) (pX (rMap (fun v => some (.int v)) r) h' (n + k))) 64 [(0, .ref o), (1, .int x1), (2, .int y2_l40_28), (3, .ref v_24), (4, .int (nI v_26)), (5, .int y5_l40_28), (6, .int v_30)] [.int w0_j64_33, .int y2_l40_28] := by
              intro w0_j64_33 kc_j64_33 ks_j64_33 a_ b_ hf hb
              rw [f_X2_turnStorm_j64_33] at hf
              refine rb_iadd C dX2_turnStorm_64 ?_
              refine rb_istore_n (lv' := [(2, .int (y2_l40_28 + w0_j64_33)), (0, .ref o), (1, .int x1), (3, .ref v_24), (4, .int (nI v_26)), (5, .int y5_l40_28), (6, .int v_30)]) C dX2_turnStorm_65 rfl (by decide) rfl ?_
              refine rb_iinc (v := (y5_l40_28 + 1)) (lv' := [(5, .int (y5_l40_28 + 1)), (2, .int (y2_l40_28 + w0_j64_33)), (0, .ref o), (1, .int x1), (3, .ref v_24), (4, .int (nI v_26)), (6, .int v_30)]) C dX2_turnStorm_66 (k := 5) rfl rfl (by decide) rfl ?_
              refine rb_goto (tgt := 40) C dX2_turnStorm_69 (by decide) ?_
              refine rb_sub [2, 3, 1, 4, 5, 0] rfl ?_
              exact ih_l40_28 (y2_l40_28 + w0_j64_33) (y5_l40_28 + 1) h_l40_28 n_l40_28 _ _ _ _ hf hb
            refine rb_if_eq (tgt := 63) C dX2_turnStorm_56 (by decide) (fun c_32 => ?_) (fun c_32 => ?_)
            · have hf := (if_pos c_32).symm.trans hf
              refine rb_iconst (v := 0) C dX2_turnStorm_63 rfl ?_
              refine rb_sub [1, 2, 3, 4, 5, 6, 0] rfl ?_
              exact J_j64_33 0  _ _ _ _ hf hb
            · have hf := (if_neg c_32).symm.trans hf
              refine rb_iconst (v := 1) C dX2_turnStorm_59 rfl ?_
              refine rb_goto (tgt := 64) C dX2_turnStorm_60 (by decide) ?_
              refine rb_sub [1, 2, 3, 4, 5, 6, 0] rfl ?_
              exact J_j64_33 1  _ _ _ _ hf hb
      refine rb_sub [4, 5, 3, 2, 1, 0] rfl ?_
      exact L_l40_28 4096 0 0 h_22 (n + k_4) _ _ _ _ hf hb
    refine rb_if_ne (tgt := 24) C dX2_turnStorm_17 (by decide) (fun c_20 => ?_) (fun c_20 => ?_)
    · have hf := (if_neg c_20).symm.trans hf
      refine rb_iconst (v := 0) C dX2_turnStorm_24 rfl ?_
      exact J_j25_21 0  _ _ _ _ hf hb
    · have hf := (if_pos c_20).symm.trans hf
      refine rb_iconst (v := 1) C dX2_turnStorm_20 rfl ?_
      refine rb_goto (tgt := 25) C dX2_turnStorm_21 (by decide) ?_
      exact J_j25_21 1  _ _ _ _ hf hb
  · dsimp only at hf
    by_cases c_34 : E_12 = "java/lang/IndexOutOfBoundsException"
    · have hf := (if_pos c_34).symm.trans hf
      subst c_34
      refine rb_callSN (As := [.int x1, .int 7]) (rest := []) C mi_X1_requireIndex ss_X2_187 (ct_X1_requireIndex Ev h n x1 7 (.inr ("java/lang/IndexOutOfBoundsException", q_13)) _ _ _ e_6) rfl rfl (Nat.le_of_ble_eq_true rfl) ⟨Nat.le_of_ble_eq_true rfl, Nat.le_of_ble_eq_true rfl, Bd.c1 hb ea_7, Bd.s1 hb eb_8⟩ dX2_turnStorm_3 (rb_xY (E := "java/lang/IndexOutOfBoundsException") (rb_wX (kc := (0 + k_4)) (ks := (0 + s_5)) rfl rfl ?_)) rb_kY
      have hb := Bd.ade hb ea_7 eb_8
      cases hf
      exact rb_out C (fun _ z => absurd z List.not_mem_nil) hb.e.2.1 hb.e.2.2 ⟨rfl, rfl, hb.e.1⟩
    have hf := (if_neg c_34).symm.trans hf
    cases hf
def f_X1_isOperator (Ev : rb_E) (h : AH) (x0 : Int32) : Option Int32 := ((hp_k Ev h (eS Ev RX1 32) 14).bind fun u_1 => ((f_J2_indexOf Ev h (eS Ev RX1 32) x0).bind fun v_4 => (if v_4 < 0 then (some 0) else (some 1))))
abbrev rm_X1_isOperator : Room := { frames := 7, cells := 0, slots := 0, locals := 159 }
set_option maxHeartbeats 4000000 in
theorem ct_X1_isOperator (Ev : rb_E) (h : AH) (n : Nat) (x0 : Int32) (r : Int32) (hf : f_X1_isOperator Ev h x0 = some r) : Ct Ev yX1_isOperator (ws_ yX1_isOperator cX1_isOperator 1 (some .boolean)) (rm_X1_isOperator) [.int x0] h n (pXi .boolean r h n) := by
  rw [f_X1_isOperator] at hf
  refine Ct.of rfl (Nat.le_of_ble_eq_true rfl) fun X C hnm => ?_
  have C : Cx Ev X RX1 cX1_isOperator 1 (some .boolean) [] := C
  show Wa Ev X (rm_X1_isOperator) 1 h n 0 0 (rb_MQ Ev X (rm_X1_isOperator) (pXi .boolean r h n)) 0 [(0, .int x0)] []
  refine rb_ldcS C q1063 dX1_isOperator_0 ?_
  refine rb_iload_n C dX1_isOperator_2 rfl 0 rfl ?_
  obtain ⟨u_1, e_2, hf⟩ := rb_bd hf
  obtain ⟨v_4, e_5, hf⟩ := rb_bd hf
  refine rb_callV (As := [.int x0]) (rest := []) C mi_J2_indexOf sv_X1_22 (hp_k_isC C.pf e_2 ck_J2) (ct_J2_indexOf Ev h n (eS Ev RX1 32) x0 _ e_5) rfl rfl (Nat.le_of_ble_eq_true rfl) ⟨Nat.le_of_ble_eq_true rfl, Nat.le_of_ble_eq_true rfl, (Nat.zero_le _), (Nat.zero_le _)⟩ dX1_isOperator_3 rb_xXi (rb_kXi fun hn_3 => (rb_w (kc := 0) (ks := 0) rfl rfl ?_))
  refine rb_if_lt (tgt := 13) C dX1_isOperator_6 (by decide) (fun c_6 => ?_) (fun c_6 => ?_)
  · have hf := (if_pos c_6).symm.trans hf
    refine rb_iconst (v := 0) C dX1_isOperator_13 rfl ?_
    cases hf
    exact rb_iret C rfl rfl (Nat.zero_le _) (Nat.zero_le _) dX1_isOperator_14 ⟨rfl, rfl, rfl, rfl⟩
  · have hf := (if_neg c_6).symm.trans hf
    refine rb_iconst (v := 1) C dX1_isOperator_9 rfl ?_
    refine rb_goto (tgt := 14) C dX1_isOperator_10 (by decide) ?_
    cases hf
    exact rb_iret C rfl rfl (Nat.zero_le _) (Nat.zero_le _) dX1_isOperator_14 ⟨rfl, rfl, rfl, rfl⟩
def f_X2_breakPlace_j154_43 (Ev : rb_E) (y1_l6_1 : Int32) (y3_l6_1 : Int32) (rec_l6_1 : Int32 → Int32 → Int32 → Option Int32) (w0_j134_41 : Int32) (w0_j154_43 : Int32) : Option Int32 := (rec_l6_1 (y1_l6_1 + w0_j134_41) w0_j154_43 (y3_l6_1 + 1))
def f_X2_breakPlace_j134_41 (Ev : rb_E) (y1_l6_1 : Int32) (y2_l6_1 : Int32) (y3_l6_1 : Int32) (rec_l6_1 : Int32 → Int32 → Int32 → Option Int32) (w0_j91_38 : Int32) (w0_j134_41 : Int32) : Option Int32 := (if w0_j91_38 = 0 then (f_X2_breakPlace_j154_43 Ev y1_l6_1 y3_l6_1 rec_l6_1 w0_j134_41 y2_l6_1) else (if y2_l6_1 = 0 then (f_X2_breakPlace_j154_43 Ev y1_l6_1 y3_l6_1 rec_l6_1 w0_j134_41 1) else (f_X2_breakPlace_j154_43 Ev y1_l6_1 y3_l6_1 rec_l6_1 w0_j134_41 0)))
def f_X2_breakPlace_j154_50 (Ev : rb_E) (y1_l6_1 : Int32) (y3_l6_1 : Int32) (rec_l6_1 : Int32 → Int32 → Int32 → Option Int32) (w0_j134_48 : Int32) (w0_j154_50 : Int32) : Option Int32 := (rec_l6_1 (y1_l6_1 + w0_j134_48) w0_j154_50 (y3_l6_1 + 1))
def f_X2_breakPlace_j134_48 (Ev : rb_E) (y1_l6_1 : Int32) (y2_l6_1 : Int32) (y3_l6_1 : Int32) (rec_l6_1 : Int32 → Int32 → Int32 → Option Int32) (w0_j91_38 : Int32) (w0_j134_48 : Int32) : Option Int32 := (if w0_j91_38 = 0 then (f_X2_breakPlace_j154_50 Ev y1_l6_1 y3_l6_1 rec_l6_1 w0_j134_48 y2_l6_1) else (if y2_l6_1 = 0 then (f_X2_breakPlace_j154_50 Ev y1_l6_1 y3_l6_1 rec_l6_1 w0_j134_48 1) else (f_X2_breakPlace_j154_50 Ev y1_l6_1 y3_l6_1 rec_l6_1 w0_j134_48 0)))
def f_X2_breakPlace_j154_57 (Ev : rb_E) (y1_l6_1 : Int32) (y3_l6_1 : Int32) (rec_l6_1 : Int32 → Int32 → Int32 → Option Int32) (w0_j134_55 : Int32) (w0_j154_57 : Int32) : Option Int32 := (rec_l6_1 (y1_l6_1 + w0_j134_55) w0_j154_57 (y3_l6_1 + 1))
def f_X2_breakPlace_j134_55 (Ev : rb_E) (y1_l6_1 : Int32) (y2_l6_1 : Int32) (y3_l6_1 : Int32) (rec_l6_1 : Int32 → Int32 → Int32 → Option Int32) (w0_j91_38 : Int32) (w0_j134_55 : Int32) : Option Int32 := (if w0_j91_38 = 0 then (f_X2_breakPlace_j154_57 Ev y1_l6_1 y3_l6_1 rec_l6_1 w0_j134_55 y2_l6_1) else (if y2_l6_1 = 0 then (f_X2_breakPlace_j154_57 Ev y1_l6_1 y3_l6_1 rec_l6_1 w0_j134_55 1) else (f_X2_breakPlace_j154_57 Ev y1_l6_1 y3_l6_1 rec_l6_1 w0_j134_55 0)))
def f_X2_breakPlace_j91_38 (Ev : rb_E) (y1_l6_1 : Int32) (y2_l6_1 : Int32) (y3_l6_1 : Int32) (rec_l6_1 : Int32 → Int32 → Int32 → Option Int32) (v_31 : Int32) (w0_j50_34 : Int32) (w0_j72_36 : Int32) (w0_j91_38 : Int32) : Option Int32 := (if w0_j50_34 = 0 then (if w0_j72_36 = 0 then (if w0_j91_38 = 0 then (some y3_l6_1) else (if v_31 = 40 then (f_X2_breakPlace_j134_55 Ev y1_l6_1 y2_l6_1 y3_l6_1 rec_l6_1 w0_j91_38 1) else (if v_31 = 41 then (f_X2_breakPlace_j134_55 Ev y1_l6_1 y2_l6_1 y3_l6_1 rec_l6_1 w0_j91_38 (-1)) else (f_X2_breakPlace_j134_55 Ev y1_l6_1 y2_l6_1 y3_l6_1 rec_l6_1 w0_j91_38 0)))) else (if v_31 = 40 then (f_X2_breakPlace_j134_48 Ev y1_l6_1 y2_l6_1 y3_l6_1 rec_l6_1 w0_j91_38 1) else (if v_31 = 41 then (f_X2_breakPlace_j134_48 Ev y1_l6_1 y2_l6_1 y3_l6_1 rec_l6_1 w0_j91_38 (-1)) else (f_X2_breakPlace_j134_48 Ev y1_l6_1 y2_l6_1 y3_l6_1 rec_l6_1 w0_j91_38 0)))) else (if v_31 = 40 then (f_X2_breakPlace_j134_41 Ev y1_l6_1 y2_l6_1 y3_l6_1 rec_l6_1 w0_j91_38 1) else (if v_31 = 41 then (f_X2_breakPlace_j134_41 Ev y1_l6_1 y2_l6_1 y3_l6_1 rec_l6_1 w0_j91_38 (-1)) else (f_X2_breakPlace_j134_41 Ev y1_l6_1 y2_l6_1 y3_l6_1 rec_l6_1 w0_j91_38 0))))
def f_X2_breakPlace_j72_36 (Ev : rb_E) (h : AH) (y1_l6_1 : Int32) (y2_l6_1 : Int32) (y3_l6_1 : Int32) (rec_l6_1 : Int32 → Int32 → Int32 → Option Int32) (v_31 : Int32) (w0_j50_34 : Int32) (w0_j72_36 : Int32) : Option Int32 := (if y2_l6_1 = 0 then ((f_X1_isOperator Ev h v_31).bind fun v_61 => (f_X2_breakPlace_j91_38 Ev y1_l6_1 y2_l6_1 y3_l6_1 rec_l6_1 v_31 w0_j50_34 w0_j72_36 v_61)) else (f_X2_breakPlace_j91_38 Ev y1_l6_1 y2_l6_1 y3_l6_1 rec_l6_1 v_31 w0_j50_34 w0_j72_36 (f_X1_isOperand v_31)))
def f_X2_breakPlace_j50_34 (Ev : rb_E) (h : AH) (y1_l6_1 : Int32) (y2_l6_1 : Int32) (y3_l6_1 : Int32) (rec_l6_1 : Int32 → Int32 → Int32 → Option Int32) (v_31 : Int32) (w0_j50_34 : Int32) : Option Int32 := (if y2_l6_1 = 0 then (if v_31 = 41 then (if y1_l6_1 ≤ 0 then (f_X2_breakPlace_j72_36 Ev h y1_l6_1 y2_l6_1 y3_l6_1 rec_l6_1 v_31 w0_j50_34 0) else (f_X2_breakPlace_j72_36 Ev h y1_l6_1 y2_l6_1 y3_l6_1 rec_l6_1 v_31 w0_j50_34 1)) else (f_X2_breakPlace_j72_36 Ev h y1_l6_1 y2_l6_1 y3_l6_1 rec_l6_1 v_31 w0_j50_34 0)) else (f_X2_breakPlace_j72_36 Ev h y1_l6_1 y2_l6_1 y3_l6_1 rec_l6_1 v_31 w0_j50_34 0))
def f_X2_breakPlace_l6_1 (Ev : rb_E) (o : Nat) (h : AH) : Nat → Int32 → Int32 → Int32 → Option Int32
  | 0, _, _, _ => none
  | k_l6_1 + 1, y1_l6_1, y2_l6_1, y3_l6_1 => ((hp_p Ev h o 1 0).bind fun v_2 => ((hp_k Ev h v_2 13).bind fun u_4 => ((f_J1_length Ev h v_2).bind fun v_7 => (if v_7 ≤ y3_l6_1 then (if y2_l6_1 = 0 then (if y1_l6_1 ≤ 0 then (some (-1)) else ((hp_p Ev h o 1 0).bind fun v_19 => ((hp_k Ev h v_19 13).bind fun u_21 => ((f_J1_length Ev h v_19).bind fun v_24 => (some v_24))))) else ((hp_p Ev h o 1 0).bind fun v_11 => ((hp_k Ev h v_11 13).bind fun u_13 => ((f_J1_length Ev h v_11).bind fun v_16 => (some v_16))))) else ((hp_p Ev h o 1 0).bind fun v_26 => ((hp_k Ev h v_26 13).bind fun u_28 => ((f_J1_charAt Ev h v_26 y3_l6_1).bind fun v_31 => (if y2_l6_1 = 0 then (f_X2_breakPlace_j50_34 Ev h y1_l6_1 y2_l6_1 y3_l6_1 (f_X2_breakPlace_l6_1 Ev o h k_l6_1) v_31 0) else (if v_31 = 126 then (f_X2_breakPlace_j50_34 Ev h y1_l6_1 y2_l6_1 y3_l6_1 (f_X2_breakPlace_l6_1 Ev o h k_l6_1) v_31 1) else (if v_31 = 40 then (f_X2_breakPlace_j50_34 Ev h y1_l6_1 y2_l6_1 y3_l6_1 (f_X2_breakPlace_l6_1 Ev o h k_l6_1) v_31 1) else (f_X2_breakPlace_j50_34 Ev h y1_l6_1 y2_l6_1 y3_l6_1 (f_X2_breakPlace_l6_1 Ev o h k_l6_1) v_31 0)))))))))))
def f_X2_breakPlace (Ev : rb_E) (h : AH) (o : Nat) : Option Int32 := (f_X2_breakPlace_l6_1 Ev o h 4096 0 1 0)
abbrev rm_X2_breakPlace : Room := { frames := 8, cells := 0, slots := 0, locals := 179 }
set_option maxHeartbeats 4000000 in
theorem ct_X2_breakPlace (Ev : rb_E) (h : AH) (n : Nat) (o : Nat) (r : Int32) (hf : f_X2_breakPlace Ev h o = some r) : Ct Ev yX2_breakPlace (ws_ yX2_breakPlace cX2_breakPlace 8 (some .int)) (rm_X2_breakPlace) [.ref o] h n (pXi .int r h n) := by
  rw [f_X2_breakPlace] at hf
  refine Ct.of rfl (Nat.le_of_ble_eq_true rfl) fun X C hnm => ?_
  have C : Cx Ev X RX2 cX2_breakPlace 8 (some .int) [] := C
  show Wa Ev X (rm_X2_breakPlace) 8 h n 0 0 (rb_MQ Ev X (rm_X2_breakPlace) (pXi .int r h n)) 0 [(0, .ref o)] []
  refine rb_iconst (v := 0) C dX2_breakPlace_0 rfl ?_
  refine rb_istore_n (lv' := [(1, .int 0), (0, .ref o)]) C dX2_breakPlace_1 rfl (by decide) rfl ?_
  refine rb_iconst (v := 1) C dX2_breakPlace_2 rfl ?_
  refine rb_istore_n (lv' := [(2, .int 1), (1, .int 0), (0, .ref o)]) C dX2_breakPlace_3 rfl (by decide) rfl ?_
  refine rb_iconst (v := 0) C dX2_breakPlace_4 rfl ?_
  refine rb_istore_n (lv' := [(3, .int 0), (2, .int 1), (1, .int 0), (0, .ref o)]) C dX2_breakPlace_5 rfl (by decide) rfl ?_
  have L_l6_1 : ∀ (k_l6_1 : Nat) (y1_l6_1 : Int32) (y2_l6_1 : Int32) (y3_l6_1 : Int32), f_X2_breakPlace_l6_1 Ev o h k_l6_1 y1_l6_1 y2_l6_1 y3_l6_1 = some r → Wa Ev X (rm_X2_breakPlace) 8 h n 0 0 (rb_MQ Ev X (rm_X2_breakPlace) (pXi .int r h n)) 6 [(0, .ref o), (1, .int y1_l6_1), (2, .int y2_l6_1), (3, .int y3_l6_1)] [] := by
    intro k_l6_1
    induction k_l6_1 with
    | zero => intro y1_l6_1 y2_l6_1 y3_l6_1 hf; cases hf
    | succ k_l6_1 ih_l6_1 =>
      intro y1_l6_1 y2_l6_1 y3_l6_1 hf
      rw [f_X2_breakPlace_l6_1] at hf
      refine rb_iload_n C dX2_breakPlace_6 rfl 3 rfl ?_
      refine rb_aload_n C dX2_breakPlace_7 rfl 0 rfl ?_
      obtain ⟨v_2, e_3, hf⟩ := rb_bd hf
      refine rb_hP C fl_X2_12_X2 e_3 dX2_breakPlace_8 ?_
      obtain ⟨u_4, e_5, hf⟩ := rb_bd hf
      obtain ⟨v_7, e_8, hf⟩ := rb_bd hf
      refine rb_callV (As := []) (rest := [.int y3_l6_1]) C mi_J1_length sv_X2_72 (hp_k_isC C.pf e_5 ck_J1) (ct_J1_length Ev h n v_2 _ e_8) rfl rfl (Nat.le_of_ble_eq_true rfl) ⟨Nat.le_of_ble_eq_true rfl, Nat.le_of_ble_eq_true rfl, (Nat.zero_le _), (Nat.zero_le _)⟩ dX2_breakPlace_11 rb_xXi (rb_kXi fun hn_6 => (rb_w (kc := 0) (ks := 0) rfl rfl ?_))
      refine rb_icmp_ge (tgt := 161) C dX2_breakPlace_14 (by decide) (fun c_9 => ?_) (fun c_9 => ?_)
      · have hf := (if_pos c_9).symm.trans hf
        refine rb_iload_n C dX2_breakPlace_161 rfl 2 rfl ?_
        refine rb_if_ne (tgt := 169) C dX2_breakPlace_162 (by decide) (fun c_10 => ?_) (fun c_10 => ?_)
        · have hf := (if_neg c_10).symm.trans hf
          refine rb_aload_n C dX2_breakPlace_169 rfl 0 rfl ?_
          obtain ⟨v_11, e_12, hf⟩ := rb_bd hf
          refine rb_hP C fl_X2_12_X2 e_12 dX2_breakPlace_170 ?_
          obtain ⟨u_13, e_14, hf⟩ := rb_bd hf
          obtain ⟨v_16, e_17, hf⟩ := rb_bd hf
          refine rb_callV (As := []) (rest := []) C mi_J1_length sv_X2_72 (hp_k_isC C.pf e_14 ck_J1) (ct_J1_length Ev h n v_11 _ e_17) rfl rfl (Nat.le_of_ble_eq_true rfl) ⟨Nat.le_of_ble_eq_true rfl, Nat.le_of_ble_eq_true rfl, (Nat.zero_le _), (Nat.zero_le _)⟩ dX2_breakPlace_173 rb_xXi (rb_kXi fun hn_15 => (rb_w (kc := 0) (ks := 0) rfl rfl ?_))
          refine rb_goto (tgt := 180) C dX2_breakPlace_176 (by decide) ?_
          cases hf
          exact rb_iret C rfl rfl (Nat.zero_le _) (Nat.zero_le _) dX2_breakPlace_180 ⟨rfl, rfl, rfl, rfl⟩
        · have hf := (if_pos c_10).symm.trans hf
          refine rb_iload_n C dX2_breakPlace_165 rfl 1 rfl ?_
          refine rb_if_le (tgt := 179) C dX2_breakPlace_166 (by decide) (fun c_18 => ?_) (fun c_18 => ?_)
          · have hf := (if_pos c_18).symm.trans hf
            refine rb_iconst (v := (-1)) C dX2_breakPlace_179 rfl ?_
            cases hf
            exact rb_iret C rfl rfl (Nat.zero_le _) (Nat.zero_le _) dX2_breakPlace_180 ⟨rfl, rfl, rfl, rfl⟩
          · have hf := (if_neg c_18).symm.trans hf
            refine rb_aload_n C dX2_breakPlace_169 rfl 0 rfl ?_
            obtain ⟨v_19, e_20, hf⟩ := rb_bd hf
            refine rb_hP C fl_X2_12_X2 e_20 dX2_breakPlace_170 ?_
            obtain ⟨u_21, e_22, hf⟩ := rb_bd hf
            obtain ⟨v_24, e_25, hf⟩ := rb_bd hf
            refine rb_callV (As := []) (rest := []) C mi_J1_length sv_X2_72 (hp_k_isC C.pf e_22 ck_J1) (ct_J1_length Ev h n v_19 _ e_25) rfl rfl (Nat.le_of_ble_eq_true rfl) ⟨Nat.le_of_ble_eq_true rfl, Nat.le_of_ble_eq_true rfl, (Nat.zero_le _), (Nat.zero_le _)⟩ dX2_breakPlace_173 rb_xXi (rb_kXi fun hn_23 => (rb_w (kc := 0) (ks := 0) rfl rfl ?_))
            refine rb_goto (tgt := 180) C dX2_breakPlace_176 (by decide) ?_
            cases hf
            exact rb_iret C rfl rfl (Nat.zero_le _) (Nat.zero_le _) dX2_breakPlace_180 ⟨rfl, rfl, rfl, rfl⟩
      · have hf := (if_neg c_9).symm.trans hf
        refine rb_aload_n C dX2_breakPlace_17 rfl 0 rfl ?_
        obtain ⟨v_26, e_27, hf⟩ := rb_bd hf
        refine rb_hP C fl_X2_12_X2 e_27 dX2_breakPlace_18 ?_
        refine rb_iload_n C dX2_breakPlace_21 rfl 3 rfl ?_
        obtain ⟨u_28, e_29, hf⟩ := rb_bd hf
        obtain ⟨v_31, e_32, hf⟩ := rb_bd hf
        refine rb_callV (As := [.int y3_l6_1]) (rest := []) C mi_J1_charAt sv_X2_76 (hp_k_isC C.pf e_29 ck_J1) (ct_J1_charAt Ev h n v_26 y3_l6_1 _ e_32) rfl rfl (Nat.le_of_ble_eq_true rfl) ⟨Nat.le_of_ble_eq_true rfl, Nat.le_of_ble_eq_true rfl, (Nat.zero_le _), (Nat.zero_le _)⟩ dX2_breakPlace_22 rb_xXi (rb_kXi fun hn_30 => (rb_w (kc := 0) (ks := 0) rfl rfl ?_))
        refine rb_istore (lv' := [(4, .int v_31), (0, .ref o), (1, .int y1_l6_1), (2, .int y2_l6_1), (3, .int y3_l6_1)]) C dX2_breakPlace_25 (by decide) rfl ?_
        refine rb_iload_n C dX2_breakPlace_27 rfl 3 rfl ?_
        have J_j50_34 : ∀ (w0_j50_34 : Int32), f_X2_breakPlace_j50_34 Ev h y1_l6_1 y2_l6_1 y3_l6_1 (f_X2_breakPlace_l6_1 Ev o h k_l6_1) v_31 w0_j50_34 = some r → Wa Ev X (rm_X2_breakPlace) 8 h n 0 0 (rb_MQ Ev X (rm_X2_breakPlace) (pXi .int r h n)) 50 [(0, .ref o), (1, .int y1_l6_1), (2, .int y2_l6_1), (3, .int y3_l6_1), (4, .int v_31)] [.int w0_j50_34] := by
          intro w0_j50_34 hf
          rw [f_X2_breakPlace_j50_34] at hf
          refine rb_istore (lv' := [(5, .int w0_j50_34), (0, .ref o), (1, .int y1_l6_1), (2, .int y2_l6_1), (3, .int y3_l6_1), (4, .int v_31)]) C dX2_breakPlace_50 (by decide) rfl ?_
          refine rb_iload_n C dX2_breakPlace_52 rfl 3 rfl ?_
          have J_j72_36 : ∀ (w0_j72_36 : Int32), f_X2_breakPlace_j72_36 Ev h y1_l6_1 y2_l6_1 y3_l6_1 (f_X2_breakPlace_l6_1 Ev o h k_l6_1) v_31 w0_j50_34 w0_j72_36 = some r → Wa Ev X (rm_X2_breakPlace) 8 h n 0 0 (rb_MQ Ev X (rm_X2_breakPlace) (pXi .int r h n)) 72 [(0, .ref o), (1, .int y1_l6_1), (2, .int y2_l6_1), (3, .int y3_l6_1), (4, .int v_31), (5, .int w0_j50_34)] [.int w0_j72_36] := by
            intro w0_j72_36 hf
            rw [f_X2_breakPlace_j72_36] at hf
            refine rb_istore (lv' := [(6, .int w0_j72_36), (0, .ref o), (1, .int y1_l6_1), (2, .int y2_l6_1), (3, .int y3_l6_1), (4, .int v_31), (5, .int w0_j50_34)]) C dX2_breakPlace_72 (by decide) rfl ?_
            refine rb_iload_n C dX2_breakPlace_74 rfl 3 rfl ?_
            have J_j91_38 : ∀ (w0_j91_38 : Int32), f_X2_breakPlace_j91_38 Ev y1_l6_1 y2_l6_1 y3_l6_1 (f_X2_breakPlace_l6_1 Ev o h k_l6_1) v_31 w0_j50_34 w0_j72_36 w0_j91_38 = some r → Wa Ev X (rm_X2_breakPlace) 8 h n 0 0 (rb_MQ Ev X (rm_X2_breakPlace) (pXi .int r h n)) 91 [(0, .ref o), (1, .int y1_l6_1), (2, .int y2_l6_1), (3, .int y3_l6_1), (4, .int v_31), (5, .int w0_j50_34), (6, .int w0_j72_36)] [.int w0_j91_38] := by
              intro w0_j91_38 hf
              rw [f_X2_breakPlace_j91_38] at hf
              refine rb_istore (lv' := [(7, .int w0_j91_38), (0, .ref o), (1, .int y1_l6_1), (2, .int y2_l6_1), (3, .int y3_l6_1), (4, .int v_31), (5, .int w0_j50_34), (6, .int w0_j72_36)]) C dX2_breakPlace_91 (by decide) rfl ?_
              refine rb_iload C dX2_breakPlace_93 6 rfl ?_
              refine rb_if_ne (tgt := 110) C dX2_breakPlace_95 (by decide) (fun c_39 => ?_) (fun c_39 => ?_)
              · have hf := (if_neg c_39).symm.trans hf
                refine rb_iload_n C dX2_breakPlace_110 rfl 2 rfl ?_
                refine rb_iload C dX2_breakPlace_111 5 rfl ?_
                refine rb_bipush (v := 40) C dX2_breakPlace_113 rfl ?_
                have J_j134_41 : ∀ (w0_j134_41 : Int32), f_X2_breakPlace_j134_41 Ev y1_l6_1 y2_l6_1 y3_l6_1 (f_X2_breakPlace_l6_1 Ev o h k_l6_1) w0_j91_38 w0_j134_41 = some r → Wa Ev X (rm_X2_breakPlace) 8 h n 0 0 (rb_MQ Ev X (rm_X2_breakPlace) (pXi .int r h n)) 134 [(0, .ref o), (1, .int y1_l6_1), (2, .int y2_l6_1), (3, .int y3_l6_1), (4, .int v_31), (5, .int w0_j50_34), (6, .int w0_j72_36), (7, .int w0_j91_38)] [.int w0_j134_41, .int y1_l6_1] := by
                  intro w0_j134_41 hf
                  rw [f_X2_breakPlace_j134_41] at hf
                  refine rb_iadd C dX2_breakPlace_134 ?_
                  refine rb_istore_n (lv' := [(1, .int (y1_l6_1 + w0_j134_41)), (0, .ref o), (2, .int y2_l6_1), (3, .int y3_l6_1), (4, .int v_31), (5, .int w0_j50_34), (6, .int w0_j72_36), (7, .int w0_j91_38)]) C dX2_breakPlace_135 rfl (by decide) rfl ?_
                  refine rb_iload C dX2_breakPlace_136 7 rfl ?_
                  have J_j154_43 : ∀ (w0_j154_43 : Int32), f_X2_breakPlace_j154_43 Ev y1_l6_1 y3_l6_1 (f_X2_breakPlace_l6_1 Ev o h k_l6_1) w0_j134_41 w0_j154_43 = some r → Wa Ev X (rm_X2_breakPlace) 8 h n 0 0 (rb_MQ Ev X (rm_X2_breakPlace) (pXi .int r h n)) 154 [(0, .ref o), (1, .int (y1_l6_1 + w0_j134_41)), (2, .int y2_l6_1), (3, .int y3_l6_1), (4, .int v_31), (5, .int w0_j50_34), (6, .int w0_j72_36), (7, .int w0_j91_38)] [.int w0_j154_43] := by
                    intro w0_j154_43 hf
                    rw [f_X2_breakPlace_j154_43] at hf
                    refine rb_istore_n (lv' := [(2, .int w0_j154_43), (0, .ref o), (1, .int (y1_l6_1 + w0_j134_41)), (3, .int y3_l6_1), (4, .int v_31), (5, .int w0_j50_34), (6, .int w0_j72_36), (7, .int w0_j91_38)]) C dX2_breakPlace_154 rfl (by decide) rfl ?_
                    refine rb_iinc (v := (y3_l6_1 + 1)) (lv' := [(3, .int (y3_l6_1 + 1)), (2, .int w0_j154_43), (0, .ref o), (1, .int (y1_l6_1 + w0_j134_41)), (4, .int v_31), (5, .int w0_j50_34), (6, .int w0_j72_36), (7, .int w0_j91_38)]) C dX2_breakPlace_155 (k := 3) rfl rfl (by decide) rfl ?_
                    refine rb_goto (tgt := 6) C dX2_breakPlace_158 (by decide) ?_
                    refine rb_sub [2, 3, 1, 0] rfl ?_
                    exact ih_l6_1 (y1_l6_1 + w0_j134_41) w0_j154_43 (y3_l6_1 + 1) hf
                  refine rb_if_eq (tgt := 153) C dX2_breakPlace_138 (by decide) (fun c_42 => ?_) (fun c_42 => ?_)
                  · have hf := (if_pos c_42).symm.trans hf
                    refine rb_iload_n C dX2_breakPlace_153 rfl 2 rfl ?_
                    refine rb_sub [1, 0, 2, 3, 4, 5, 6, 7] rfl ?_
                    exact J_j154_43 y2_l6_1 hf
                  · have hf := (if_neg c_42).symm.trans hf
                    refine rb_iload_n C dX2_breakPlace_141 rfl 2 rfl ?_
                    refine rb_if_ne (tgt := 149) C dX2_breakPlace_142 (by decide) (fun c_44 => ?_) (fun c_44 => ?_)
                    · have hf := (if_neg c_44).symm.trans hf
                      refine rb_iconst (v := 0) C dX2_breakPlace_149 rfl ?_
                      refine rb_goto (tgt := 154) C dX2_breakPlace_150 (by decide) ?_
                      refine rb_sub [1, 0, 2, 3, 4, 5, 6, 7] rfl ?_
                      exact J_j154_43 0 hf
                    · have hf := (if_pos c_44).symm.trans hf
                      refine rb_iconst (v := 1) C dX2_breakPlace_145 rfl ?_
                      refine rb_goto (tgt := 154) C dX2_breakPlace_146 (by decide) ?_
                      refine rb_sub [1, 0, 2, 3, 4, 5, 6, 7] rfl ?_
                      exact J_j154_43 1 hf
                refine rb_icmp_ne (tgt := 122) C dX2_breakPlace_115 (by decide) (fun c_40 => ?_) (fun c_40 => ?_)
                · have hf := (if_neg c_40).symm.trans hf
                  refine rb_iload C dX2_breakPlace_122 5 rfl ?_
                  refine rb_bipush (v := 41) C dX2_breakPlace_124 rfl ?_
                  refine rb_icmp_ne (tgt := 133) C dX2_breakPlace_126 (by decide) (fun c_45 => ?_) (fun c_45 => ?_)
                  · have hf := (if_neg c_45).symm.trans hf
                    refine rb_iconst (v := 0) C dX2_breakPlace_133 rfl ?_
                    refine rb_sub [1, 2, 3, 4, 5, 6, 7, 0] rfl ?_
                    exact J_j134_41 0 hf
                  · have hf := (if_pos c_45).symm.trans hf
                    refine rb_iconst (v := (-1)) C dX2_breakPlace_129 rfl ?_
                    refine rb_goto (tgt := 134) C dX2_breakPlace_130 (by decide) ?_
                    refine rb_sub [1, 2, 3, 4, 5, 6, 7, 0] rfl ?_
                    exact J_j134_41 (-1) hf
                · have hf := (if_pos c_40).symm.trans hf
                  refine rb_iconst (v := 1) C dX2_breakPlace_118 rfl ?_
                  refine rb_goto (tgt := 134) C dX2_breakPlace_119 (by decide) ?_
                  refine rb_sub [1, 2, 3, 4, 5, 6, 7, 0] rfl ?_
                  exact J_j134_41 1 hf
              · have hf := (if_pos c_39).symm.trans hf
                refine rb_iload C dX2_breakPlace_98 7 rfl ?_
                refine rb_if_ne (tgt := 110) C dX2_breakPlace_100 (by decide) (fun c_46 => ?_) (fun c_46 => ?_)
                · have hf := (if_neg c_46).symm.trans hf
                  refine rb_iload_n C dX2_breakPlace_110 rfl 2 rfl ?_
                  refine rb_iload C dX2_breakPlace_111 5 rfl ?_
                  refine rb_bipush (v := 40) C dX2_breakPlace_113 rfl ?_
                  have J_j134_48 : ∀ (w0_j134_48 : Int32), f_X2_breakPlace_j134_48 Ev y1_l6_1 y2_l6_1 y3_l6_1 (f_X2_breakPlace_l6_1 Ev o h k_l6_1) w0_j91_38 w0_j134_48 = some r → Wa Ev X (rm_X2_breakPlace) 8 h n 0 0 (rb_MQ Ev X (rm_X2_breakPlace) (pXi .int r h n)) 134 [(0, .ref o), (1, .int y1_l6_1), (2, .int y2_l6_1), (3, .int y3_l6_1), (4, .int v_31), (5, .int w0_j50_34), (6, .int w0_j72_36), (7, .int w0_j91_38)] [.int w0_j134_48, .int y1_l6_1] := by
                    intro w0_j134_48 hf
                    rw [f_X2_breakPlace_j134_48] at hf
                    refine rb_iadd C dX2_breakPlace_134 ?_
                    refine rb_istore_n (lv' := [(1, .int (y1_l6_1 + w0_j134_48)), (0, .ref o), (2, .int y2_l6_1), (3, .int y3_l6_1), (4, .int v_31), (5, .int w0_j50_34), (6, .int w0_j72_36), (7, .int w0_j91_38)]) C dX2_breakPlace_135 rfl (by decide) rfl ?_
                    refine rb_iload C dX2_breakPlace_136 7 rfl ?_
                    have J_j154_50 : ∀ (w0_j154_50 : Int32), f_X2_breakPlace_j154_50 Ev y1_l6_1 y3_l6_1 (f_X2_breakPlace_l6_1 Ev o h k_l6_1) w0_j134_48 w0_j154_50 = some r → Wa Ev X (rm_X2_breakPlace) 8 h n 0 0 (rb_MQ Ev X (rm_X2_breakPlace) (pXi .int r h n)) 154 [(0, .ref o), (1, .int (y1_l6_1 + w0_j134_48)), (2, .int y2_l6_1), (3, .int y3_l6_1), (4, .int v_31), (5, .int w0_j50_34), (6, .int w0_j72_36), (7, .int w0_j91_38)] [.int w0_j154_50] := by
                      intro w0_j154_50 hf
                      rw [f_X2_breakPlace_j154_50] at hf
                      refine rb_istore_n (lv' := [(2, .int w0_j154_50), (0, .ref o), (1, .int (y1_l6_1 + w0_j134_48)), (3, .int y3_l6_1), (4, .int v_31), (5, .int w0_j50_34), (6, .int w0_j72_36), (7, .int w0_j91_38)]) C dX2_breakPlace_154 rfl (by decide) rfl ?_
                      refine rb_iinc (v := (y3_l6_1 + 1)) (lv' := [(3, .int (y3_l6_1 + 1)), (2, .int w0_j154_50), (0, .ref o), (1, .int (y1_l6_1 + w0_j134_48)), (4, .int v_31), (5, .int w0_j50_34), (6, .int w0_j72_36), (7, .int w0_j91_38)]) C dX2_breakPlace_155 (k := 3) rfl rfl (by decide) rfl ?_
                      refine rb_goto (tgt := 6) C dX2_breakPlace_158 (by decide) ?_
                      refine rb_sub [2, 3, 1, 0] rfl ?_
                      exact ih_l6_1 (y1_l6_1 + w0_j134_48) w0_j154_50 (y3_l6_1 + 1) hf
                    refine rb_if_eq (tgt := 153) C dX2_breakPlace_138 (by decide) (fun c_49 => ?_) (fun c_49 => ?_)
                    · have hf := (if_pos c_49).symm.trans hf
                      refine rb_iload_n C dX2_breakPlace_153 rfl 2 rfl ?_
                      refine rb_sub [1, 0, 2, 3, 4, 5, 6, 7] rfl ?_
                      exact J_j154_50 y2_l6_1 hf
                    · have hf := (if_neg c_49).symm.trans hf
                      refine rb_iload_n C dX2_breakPlace_141 rfl 2 rfl ?_
                      refine rb_if_ne (tgt := 149) C dX2_breakPlace_142 (by decide) (fun c_51 => ?_) (fun c_51 => ?_)
                      · have hf := (if_neg c_51).symm.trans hf
                        refine rb_iconst (v := 0) C dX2_breakPlace_149 rfl ?_
                        refine rb_goto (tgt := 154) C dX2_breakPlace_150 (by decide) ?_
                        refine rb_sub [1, 0, 2, 3, 4, 5, 6, 7] rfl ?_
                        exact J_j154_50 0 hf
                      · have hf := (if_pos c_51).symm.trans hf
                        refine rb_iconst (v := 1) C dX2_breakPlace_145 rfl ?_
                        refine rb_goto (tgt := 154) C dX2_breakPlace_146 (by decide) ?_
                        refine rb_sub [1, 0, 2, 3, 4, 5, 6, 7] rfl ?_
                        exact J_j154_50 1 hf
                  refine rb_icmp_ne (tgt := 122) C dX2_breakPlace_115 (by decide) (fun c_47 => ?_) (fun c_47 => ?_)
                  · have hf := (if_neg c_47).symm.trans hf
                    refine rb_iload C dX2_breakPlace_122 5 rfl ?_
                    refine rb_bipush (v := 41) C dX2_breakPlace_124 rfl ?_
                    refine rb_icmp_ne (tgt := 133) C dX2_breakPlace_126 (by decide) (fun c_52 => ?_) (fun c_52 => ?_)
                    · have hf := (if_neg c_52).symm.trans hf
                      refine rb_iconst (v := 0) C dX2_breakPlace_133 rfl ?_
                      refine rb_sub [1, 2, 3, 4, 5, 6, 7, 0] rfl ?_
                      exact J_j134_48 0 hf
                    · have hf := (if_pos c_52).symm.trans hf
                      refine rb_iconst (v := (-1)) C dX2_breakPlace_129 rfl ?_
                      refine rb_goto (tgt := 134) C dX2_breakPlace_130 (by decide) ?_
                      refine rb_sub [1, 2, 3, 4, 5, 6, 7, 0] rfl ?_
                      exact J_j134_48 (-1) hf
                  · have hf := (if_pos c_47).symm.trans hf
                    refine rb_iconst (v := 1) C dX2_breakPlace_118 rfl ?_
                    refine rb_goto (tgt := 134) C dX2_breakPlace_119 (by decide) ?_
                    refine rb_sub [1, 2, 3, 4, 5, 6, 7, 0] rfl ?_
                    exact J_j134_48 1 hf
                · have hf := (if_pos c_46).symm.trans hf
                  refine rb_iload C dX2_breakPlace_103 0 rfl ?_
                  refine rb_if_ne (tgt := 110) C dX2_breakPlace_105 (by decide) (fun c_53 => ?_) (fun c_53 => ?_)
                  · have hf := (if_neg c_53).symm.trans hf
                    refine rb_iload_n C dX2_breakPlace_110 rfl 2 rfl ?_
                    refine rb_iload C dX2_breakPlace_111 5 rfl ?_
                    refine rb_bipush (v := 40) C dX2_breakPlace_113 rfl ?_
                    have J_j134_55 : ∀ (w0_j134_55 : Int32), f_X2_breakPlace_j134_55 Ev y1_l6_1 y2_l6_1 y3_l6_1 (f_X2_breakPlace_l6_1 Ev o h k_l6_1) w0_j91_38 w0_j134_55 = some r → Wa Ev X (rm_X2_breakPlace) 8 h n 0 0 (rb_MQ Ev X (rm_X2_breakPlace) (pXi .int r h n)) 134 [(0, .ref o), (1, .int y1_l6_1), (2, .int y2_l6_1), (3, .int y3_l6_1), (4, .int v_31), (5, .int w0_j50_34), (6, .int w0_j72_36), (7, .int w0_j91_38)] [.int w0_j134_55, .int y1_l6_1] := by
                      intro w0_j134_55 hf
                      rw [f_X2_breakPlace_j134_55] at hf
                      refine rb_iadd C dX2_breakPlace_134 ?_
                      refine rb_istore_n (lv' := [(1, .int (y1_l6_1 + w0_j134_55)), (0, .ref o), (2, .int y2_l6_1), (3, .int y3_l6_1), (4, .int v_31), (5, .int w0_j50_34), (6, .int w0_j72_36), (7, .int w0_j91_38)]) C dX2_breakPlace_135 rfl (by decide) rfl ?_
                      refine rb_iload C dX2_breakPlace_136 7 rfl ?_
                      have J_j154_57 : ∀ (w0_j154_57 : Int32), f_X2_breakPlace_j154_57 Ev y1_l6_1 y3_l6_1 (f_X2_breakPlace_l6_1 Ev o h k_l6_1) w0_j134_55 w0_j154_57 = some r → Wa Ev X (rm_X2_breakPlace) 8 h n 0 0 (rb_MQ Ev X (rm_X2_breakPlace) (pXi .int r h n)) 154 [(0, .ref o), (1, .int (y1_l6_1 + w0_j134_55)), (2, .int y2_l6_1), (3, .int y3_l6_1), (4, .int v_31), (5, .int w0_j50_34), (6, .int w0_j72_36), (7, .int w0_j91_38)] [.int w0_j154_57] := by
                        intro w0_j154_57 hf
                        rw [f_X2_breakPlace_j154_57] at hf
                        refine rb_istore_n (lv' := [(2, .int w0_j154_57), (0, .ref o), (1, .int (y1_l6_1 + w0_j134_55)), (3, .int y3_l6_1), (4, .int v_31), (5, .int w0_j50_34), (6, .int w0_j72_36), (7, .int w0_j91_38)]) C dX2_breakPlace_154 rfl (by decide) rfl ?_
                        refine rb_iinc (v := (y3_l6_1 + 1)) (lv' := [(3, .int (y3_l6_1 + 1)), (2, .int w0_j154_57), (0, .ref o), (1, .int (y1_l6_1 + w0_j134_55)), (4, .int v_31), (5, .int w0_j50_34), (6, .int w0_j72_36), (7, .int w0_j91_38)]) C dX2_breakPlace_155 (k := 3) rfl rfl (by decide) rfl ?_
                        refine rb_goto (tgt := 6) C dX2_breakPlace_158 (by decide) ?_
                        refine rb_sub [2, 3, 1, 0] rfl ?_
                        exact ih_l6_1 (y1_l6_1 + w0_j134_55) w0_j154_57 (y3_l6_1 + 1) hf
                      refine rb_if_eq (tgt := 153) C dX2_breakPlace_138 (by decide) (fun c_56 => ?_) (fun c_56 => ?_)
                      · have hf := (if_pos c_56).symm.trans hf
                        refine rb_iload_n C dX2_breakPlace_153 rfl 2 rfl ?_
                        refine rb_sub [1, 0, 2, 3, 4, 5, 6, 7] rfl ?_
                        exact J_j154_57 y2_l6_1 hf
                      · have hf := (if_neg c_56).symm.trans hf
                        refine rb_iload_n C dX2_breakPlace_141 rfl 2 rfl ?_
                        refine rb_if_ne (tgt := 149) C dX2_breakPlace_142 (by decide) (fun c_58 => ?_) (fun c_58 => ?_)
                        · have hf := (if_neg c_58).symm.trans hf
                          refine rb_iconst (v := 0) C dX2_breakPlace_149 rfl ?_
                          refine rb_goto (tgt := 154) C dX2_breakPlace_150 (by decide) ?_
                          refine rb_sub [1, 0, 2, 3, 4, 5, 6, 7] rfl ?_
                          exact J_j154_57 0 hf
                        · have hf := (if_pos c_58).symm.trans hf
                          refine rb_iconst (v := 1) C dX2_breakPlace_145 rfl ?_
                          refine rb_goto (tgt := 154) C dX2_breakPlace_146 (by decide) ?_
                          refine rb_sub [1, 0, 2, 3, 4, 5, 6, 7] rfl ?_
                          exact J_j154_57 1 hf
                    refine rb_icmp_ne (tgt := 122) C dX2_breakPlace_115 (by decide) (fun c_54 => ?_) (fun c_54 => ?_)
                    · have hf := (if_neg c_54).symm.trans hf
                      refine rb_iload C dX2_breakPlace_122 5 rfl ?_
                      refine rb_bipush (v := 41) C dX2_breakPlace_124 rfl ?_
                      refine rb_icmp_ne (tgt := 133) C dX2_breakPlace_126 (by decide) (fun c_59 => ?_) (fun c_59 => ?_)
                      · have hf := (if_neg c_59).symm.trans hf
                        refine rb_iconst (v := 0) C dX2_breakPlace_133 rfl ?_
                        refine rb_sub [1, 2, 3, 4, 5, 6, 7, 0] rfl ?_
                        exact J_j134_55 0 hf
                      · have hf := (if_pos c_59).symm.trans hf
                        refine rb_iconst (v := (-1)) C dX2_breakPlace_129 rfl ?_
                        refine rb_goto (tgt := 134) C dX2_breakPlace_130 (by decide) ?_
                        refine rb_sub [1, 2, 3, 4, 5, 6, 7, 0] rfl ?_
                        exact J_j134_55 (-1) hf
                    · have hf := (if_pos c_54).symm.trans hf
                      refine rb_iconst (v := 1) C dX2_breakPlace_118 rfl ?_
                      refine rb_goto (tgt := 134) C dX2_breakPlace_119 (by decide) ?_
                      refine rb_sub [1, 2, 3, 4, 5, 6, 7, 0] rfl ?_
                      exact J_j134_55 1 hf
                  · have hf := (if_pos c_53).symm.trans hf
                    refine rb_iload_n C dX2_breakPlace_108 rfl 4 rfl ?_
                    cases hf
                    exact rb_iret C rfl rfl (Nat.zero_le _) (Nat.zero_le _) dX2_breakPlace_109 ⟨rfl, rfl, rfl, rfl⟩
            refine rb_if_eq (tgt := 86) C dX2_breakPlace_75 (by decide) (fun c_37 => ?_) (fun c_37 => ?_)
            · have hf := (if_pos c_37).symm.trans hf
              refine rb_iload C dX2_breakPlace_86 5 rfl ?_
              obtain ⟨v_61, e_62, hf⟩ := rb_bd hf
              refine rb_callSN (As := [.int v_31]) (rest := []) C mi_X1_isOperator ss_X2_131 (ct_X1_isOperator Ev h n v_31 _ e_62) rfl rfl (Nat.le_of_ble_eq_true rfl) ⟨Nat.le_of_ble_eq_true rfl, Nat.le_of_ble_eq_true rfl, (Nat.zero_le _), (Nat.zero_le _)⟩ dX2_breakPlace_88 rb_xXi (rb_kXi fun hn_60 => (rb_w (kc := 0) (ks := 0) rfl rfl ?_))
              refine rb_sub [1, 2, 3, 4, 5, 6, 0] rfl ?_
              exact J_j91_38 v_61 hf
            · have hf := (if_neg c_37).symm.trans hf
              refine rb_iload C dX2_breakPlace_78 5 rfl ?_
              refine rb_callSN (As := [.int v_31]) (rest := []) C mi_X1_isOperand ss_X2_80 (ct_X1_isOperand Ev h n v_31 _ rfl) rfl rfl (Nat.le_of_ble_eq_true rfl) ⟨Nat.le_of_ble_eq_true rfl, Nat.le_of_ble_eq_true rfl, (Nat.zero_le _), (Nat.zero_le _)⟩ dX2_breakPlace_80 rb_xXi (rb_kXi fun hn_63 => (rb_w (kc := 0) (ks := 0) rfl rfl ?_))
              refine rb_goto (tgt := 91) C dX2_breakPlace_83 (by decide) ?_
              refine rb_sub [1, 2, 3, 4, 5, 6, 0] rfl ?_
              exact J_j91_38 (f_X1_isOperand v_31) hf
          refine rb_if_ne (tgt := 71) C dX2_breakPlace_53 (by decide) (fun c_35 => ?_) (fun c_35 => ?_)
          · have hf := (if_neg c_35).symm.trans hf
            refine rb_iconst (v := 0) C dX2_breakPlace_71 rfl ?_
            refine rb_sub [1, 2, 3, 4, 5, 0] rfl ?_
            exact J_j72_36 0 hf
          · have hf := (if_pos c_35).symm.trans hf
            refine rb_iload C dX2_breakPlace_56 5 rfl ?_
            refine rb_bipush (v := 41) C dX2_breakPlace_58 rfl ?_
            refine rb_icmp_ne (tgt := 71) C dX2_breakPlace_60 (by decide) (fun c_64 => ?_) (fun c_64 => ?_)
            · have hf := (if_neg c_64).symm.trans hf
              refine rb_iconst (v := 0) C dX2_breakPlace_71 rfl ?_
              refine rb_sub [1, 2, 3, 4, 5, 0] rfl ?_
              exact J_j72_36 0 hf
            · have hf := (if_pos c_64).symm.trans hf
              refine rb_iload_n C dX2_breakPlace_63 rfl 2 rfl ?_
              refine rb_if_le (tgt := 71) C dX2_breakPlace_64 (by decide) (fun c_65 => ?_) (fun c_65 => ?_)
              · have hf := (if_pos c_65).symm.trans hf
                refine rb_iconst (v := 0) C dX2_breakPlace_71 rfl ?_
                refine rb_sub [1, 2, 3, 4, 5, 0] rfl ?_
                exact J_j72_36 0 hf
              · have hf := (if_neg c_65).symm.trans hf
                refine rb_iconst (v := 1) C dX2_breakPlace_67 rfl ?_
                refine rb_goto (tgt := 72) C dX2_breakPlace_68 (by decide) ?_
                refine rb_sub [1, 2, 3, 4, 5, 0] rfl ?_
                exact J_j72_36 1 hf
        refine rb_if_eq (tgt := 49) C dX2_breakPlace_28 (by decide) (fun c_33 => ?_) (fun c_33 => ?_)
        · have hf := (if_pos c_33).symm.trans hf
          refine rb_iconst (v := 0) C dX2_breakPlace_49 rfl ?_
          refine rb_sub [1, 2, 3, 4, 0] rfl ?_
          exact J_j50_34 0 hf
        · have hf := (if_neg c_33).symm.trans hf
          refine rb_iload C dX2_breakPlace_31 0 rfl ?_
          refine rb_bipush (v := 126) C dX2_breakPlace_33 rfl ?_
          refine rb_icmp_eq (tgt := 45) C dX2_breakPlace_35 (by decide) (fun c_66 => ?_) (fun c_66 => ?_)
          · have hf := (if_pos c_66).symm.trans hf
            refine rb_iconst (v := 1) C dX2_breakPlace_45 rfl ?_
            refine rb_goto (tgt := 50) C dX2_breakPlace_46 (by decide) ?_
            refine rb_sub [1, 2, 3, 4, 0] rfl ?_
            exact J_j50_34 1 hf
          · have hf := (if_neg c_66).symm.trans hf
            refine rb_iload C dX2_breakPlace_38 0 rfl ?_
            refine rb_bipush (v := 40) C dX2_breakPlace_40 rfl ?_
            refine rb_icmp_ne (tgt := 49) C dX2_breakPlace_42 (by decide) (fun c_67 => ?_) (fun c_67 => ?_)
            · have hf := (if_neg c_67).symm.trans hf
              refine rb_iconst (v := 0) C dX2_breakPlace_49 rfl ?_
              refine rb_sub [1, 2, 3, 4, 0] rfl ?_
              exact J_j50_34 0 hf
            · have hf := (if_pos c_67).symm.trans hf
              refine rb_iconst (v := 1) C dX2_breakPlace_45 rfl ?_
              refine rb_goto (tgt := 50) C dX2_breakPlace_46 (by decide) ?_
              refine rb_sub [1, 2, 3, 4, 0] rfl ?_
              exact J_j50_34 1 hf
  refine rb_sub [3, 2, 1, 0] rfl ?_
  exact L_l6_1 4096 0 1 0 hf
def f_X2_requireExpression_j13_7 (Ev : rb_E) (o : Nat) (h : AH) (n : Nat) (w0_j13_7 : Int32) : Option ((Unit ⊕ (String × Nat)) × AH × Nat × Nat) := ((hp_k Ev h o 1).bind fun u_8 => ((f_X2_breakPlace Ev h o).bind fun v_11 => ((f_X1_denyUnless Ev h n w0_j13_7 2 v_11).bind fun (r_14, h_15, k_16, s_17) => (ad k_16 s_17 (match r_14 with | .inl v_23 => (some (.inl (), h_15, 0, 0)) | .inr (E_24, q_25) => (if E_24 = "RainbowOperators$Denial" then (some (.inr ("RainbowOperators$Denial", q_25), h_15, 0, 0)) else none))))))
def f_X2_requireExpression (Ev : rb_E) (h : AH) (n : Nat) (o : Nat) : Option ((Unit ⊕ (String × Nat)) × AH × Nat × Nat) := ((hp_k Ev h o 1).bind fun u_1 => ((f_X2_breakPlace Ev h o).bind fun v_4 => (if v_4 = (-1) then (f_X2_requireExpression_j13_7 Ev o h n 1) else (f_X2_requireExpression_j13_7 Ev o h n 0))))
abbrev rm_X2_requireExpression (k s : Nat) : Room := { frames := 9, cells := k, slots := s, locals := 206 }
set_option maxHeartbeats 4000000 in
theorem ct_X2_requireExpression (Ev : rb_E) (h : AH) (n : Nat) (o : Nat) (r : Unit ⊕ (String × Nat)) (h' : AH) (k s : Nat) (hf : f_X2_requireExpression Ev h n o = some (r, h', k, s)) : Ct Ev yX2_requireExpression (ws_ yX2_requireExpression cX2_requireExpression 1 none) (rm_X2_requireExpression k s) [.ref o] h n (pX (rMap (fun _ => none) r) h' (n + k)) := by
  rw [f_X2_requireExpression] at hf
  refine Ct.of rfl (Nat.le_of_ble_eq_true rfl) fun X C hnm => ?_
  have C : Cx Ev X RX2 cX2_requireExpression 1 none [] := C
  show Wa Ev X (rm_X2_requireExpression k s) 1 h n 0 0 (rb_MQ Ev X (rm_X2_requireExpression k s) (pX (rMap (fun _ => none) r) h' (n + k))) 0 [(0, .ref o)] []
  have hb : Bd (n + k) k s n 0 0 k s := ⟨rfl, Nat.le_of_eq (Nat.zero_add _), Nat.le_of_eq (Nat.zero_add _)⟩
  refine rb_aload_n C dX2_requireExpression_0 rfl 0 rfl ?_
  obtain ⟨u_1, e_2, hf⟩ := rb_bd hf
  obtain ⟨v_4, e_5, hf⟩ := rb_bd hf
  refine rb_callV (As := []) (rest := []) C mi_X2_breakPlace sv_X2_134 (hp_k_isC C.pf e_2 ck_X2) (ct_X2_breakPlace Ev h n o _ e_5) rfl rfl (Nat.le_of_ble_eq_true rfl) ⟨Nat.le_of_ble_eq_true rfl, Nat.le_of_ble_eq_true rfl, hb.c0, hb.s0⟩ dX2_requireExpression_1 rb_xXi (rb_kXi fun hn_3 => (rb_w (kc := 0) (ks := 0) rfl rfl ?_))
  refine rb_iconst (v := (-1)) C dX2_requireExpression_4 rfl ?_
  have J_j13_7 : ∀ (w0_j13_7 : Int32) (kc_j13_7 ks_j13_7 a_ b_ : Nat), f_X2_requireExpression_j13_7 Ev o h n w0_j13_7 = some (r, h', a_, b_) → Bd (n + k) k s n kc_j13_7 ks_j13_7 a_ b_ → Wa Ev X (rm_X2_requireExpression k s) 1 h n kc_j13_7 ks_j13_7 (rb_MQ Ev X (rm_X2_requireExpression k s) (pX (rMap (fun _ => none) r) h' (n + k))) 13 [(0, .ref o)] [.int w0_j13_7] := by
    intro w0_j13_7 kc_j13_7 ks_j13_7 a_ b_ hf hb
    rw [f_X2_requireExpression_j13_7] at hf
    refine rb_iconst (v := 2) C dX2_requireExpression_13 rfl ?_
    refine rb_aload_n C dX2_requireExpression_14 rfl 0 rfl ?_
    obtain ⟨u_8, e_9, hf⟩ := rb_bd hf
    obtain ⟨v_11, e_12, hf⟩ := rb_bd hf
    refine rb_callV (As := []) (rest := [.int 2, .int w0_j13_7]) C mi_X2_breakPlace sv_X2_134 (hp_k_isC C.pf e_9 ck_X2) (ct_X2_breakPlace Ev h n o _ e_12) rfl rfl (Nat.le_of_ble_eq_true rfl) ⟨Nat.le_of_ble_eq_true rfl, Nat.le_of_ble_eq_true rfl, hb.c0, hb.s0⟩ dX2_requireExpression_15 rb_xXi (rb_kXi fun hn_10 => (rb_w (kc := kc_j13_7) (ks := ks_j13_7) rfl rfl ?_))
    obtain ⟨⟨r_14, h_15, k_16, s_17⟩, e_18, hf⟩ := rb_bd hf
    obtain ⟨a_21, b_22, hf, ea_19, eb_20⟩ := ad_at hf
    rcases r_14 with v_23 | ⟨E_24, q_25⟩
    · dsimp only at hf
      refine rb_callSN (As := [.int w0_j13_7, .int 2, .int v_11]) (rest := []) C mi_X1_denyUnless ss_X2_137 (ct_X1_denyUnless Ev h n w0_j13_7 2 v_11 (.inl v_23) _ _ _ e_18) rfl rfl (Nat.le_of_ble_eq_true rfl) ⟨Nat.le_of_ble_eq_true rfl, Nat.le_of_ble_eq_true rfl, Bd.c1 hb ea_19, Bd.s1 hb eb_20⟩ dX2_requireExpression_18 rb_xX (rb_kX (r := none) (rb_w (kc := (kc_j13_7 + k_16)) (ks := (ks_j13_7 + s_17)) rfl rfl ?_))
      have hb := Bd.ade hb ea_19 eb_20
      cases hf
      exact rb_vret C rfl hb.e.2.1 hb.e.2.2 dX2_requireExpression_21 ⟨rfl, rfl, hb.e.1⟩
    · dsimp only at hf
      by_cases c_26 : E_24 = "RainbowOperators$Denial"
      · have hf := (if_pos c_26).symm.trans hf
        subst c_26
        refine rb_callSN (As := [.int w0_j13_7, .int 2, .int v_11]) (rest := []) C mi_X1_denyUnless ss_X2_137 (ct_X1_denyUnless Ev h n w0_j13_7 2 v_11 (.inr ("RainbowOperators$Denial", q_25)) _ _ _ e_18) rfl rfl (Nat.le_of_ble_eq_true rfl) ⟨Nat.le_of_ble_eq_true rfl, Nat.le_of_ble_eq_true rfl, Bd.c1 hb ea_19, Bd.s1 hb eb_20⟩ dX2_requireExpression_18 (rb_xY (E := "RainbowOperators$Denial") (rb_wX (kc := (kc_j13_7 + k_16)) (ks := (ks_j13_7 + s_17)) rfl rfl ?_)) rb_kY
        have hb := Bd.ade hb ea_19 eb_20
        cases hf
        exact rb_out C (fun _ z => absurd z List.not_mem_nil) hb.e.2.1 hb.e.2.2 ⟨rfl, rfl, hb.e.1⟩
      have hf := (if_neg c_26).symm.trans hf
      cases hf
  refine rb_icmp_ne (tgt := 12) C dX2_requireExpression_5 (by decide) (fun c_6 => ?_) (fun c_6 => ?_)
  · have hf := (if_neg c_6).symm.trans hf
    refine rb_iconst (v := 0) C dX2_requireExpression_12 rfl ?_
    exact J_j13_7 0  _ _ _ _ hf hb
  · have hf := (if_pos c_6).symm.trans hf
    refine rb_iconst (v := 1) C dX2_requireExpression_8 rfl ?_
    refine rb_goto (tgt := 13) C dX2_requireExpression_9 (by decide) ?_
    exact J_j13_7 1  _ _ _ _ hf hb
def f_J0_getValue (Ev : rb_E) (h : AH) (o : Nat) : Option Nat := ((hp_p Ev h o 13 0).bind fun v_1 => (some v_1))
abbrev rm_J0_getValue : Room := { frames := 0, cells := 0, slots := 0, locals := 0 }
set_option maxHeartbeats 4000000 in
theorem ct_J0_getValue (Ev : rb_E) (h : AH) (n : Nat) (o : Nat) (r : Nat) (hf : f_J0_getValue Ev h o = some r) : Ct Ev yJ0_getValue (ws_ yJ0_getValue cJ0_getValue 1 (some (.array .byte))) (rm_J0_getValue) [.ref o] h n (pX (.inl (some (.ref r))) h n) := by
  rw [f_J0_getValue] at hf
  refine Ct.of rfl (Nat.le_of_ble_eq_true rfl) fun X C hnm => ?_
  have C : Cx Ev X RJ0 cJ0_getValue 1 (some (.array .byte)) [] := C
  show Wa Ev X (rm_J0_getValue) 1 h n 0 0 (rb_MQ Ev X (rm_J0_getValue) (pX (.inl (some (.ref r))) h n)) 0 [(0, .ref o)] []
  refine rb_aload_n C dJ0_getValue_0 rfl 0 rfl ?_
  obtain ⟨v_1, e_2, hf⟩ := rb_bd hf
  refine rb_hP C fl_J0_15_J1 e_2 dJ0_getValue_1 ?_
  cases hf
  exact rb_aret C rfl (Or.inr ⟨_, rfl⟩) (Or.inr ⟨_, rfl⟩) (Nat.zero_le _) (Nat.zero_le _) dJ0_getValue_4 ⟨rfl, rfl, rfl⟩
def f_J9_checkLength (Ev : rb_E) (h : AH) (x0 : Int32) (x1 : Int32) : Option Unit := (if x0 ≤ x1 then (some ()) else none)
abbrev rm_J9_checkLength : Room := { frames := 0, cells := 0, slots := 0, locals := 0 }
set_option maxHeartbeats 4000000 in
theorem ct_J9_checkLength (Ev : rb_E) (h : AH) (n : Nat) (x0 : Int32) (x1 : Int32) (r : Unit) (hf : f_J9_checkLength Ev h x0 x1 = some r) : Ct Ev yJ9_checkLength (ws_ yJ9_checkLength cJ9_checkLength 2 none) (rm_J9_checkLength) [.int x0, .int x1] h n (pX (.inl (none)) h n) := by
  rw [f_J9_checkLength] at hf
  refine Ct.of rfl (Nat.le_of_ble_eq_true rfl) fun X C hnm => ?_
  have C : Cx Ev X RJ9 cJ9_checkLength 2 none [] := C
  show Wa Ev X (rm_J9_checkLength) 2 h n 0 0 (rb_MQ Ev X (rm_J9_checkLength) (pX (.inl (none)) h n)) 0 [(0, .int x0), (1, .int x1)] []
  refine rb_iload_n C dJ9_checkLength_0 rfl 1 rfl ?_
  refine rb_iload_n C dJ9_checkLength_1 rfl 0 rfl ?_
  refine rb_icmp_ge (tgt := 37) C dJ9_checkLength_2 (by decide) (fun c_1 => ?_) (fun c_1 => ?_)
  · have hf := (if_pos c_1).symm.trans hf
    cases hf
    exact rb_vret C rfl (Nat.zero_le _) (Nat.zero_le _) dJ9_checkLength_37 ⟨rfl, rfl, rfl⟩
  · have hf := (if_neg c_1).symm.trans hf
    cases hf
def f_J9_copyOfRangeByte (Ev : rb_E) (h : AH) (n : Nat) (x0 : Nat) (x1 : Int32) (x2 : Int32) : Option (Nat × AH × Nat × Nat) := ((f_J9_checkLength Ev h x1 x2).bind fun v_2 => (if (x2 - x1) < 0 ∨ 65536 < (x2 - x1).toNatClampNeg then none else (ad 1 (x2 - x1).toNatClampNeg (rb_lt (va_up h n (some (.inl (eA Ev 1, (x2 - x1).toNatClampNeg, .inl (fun _ => 0))))) fun h_9 => ((hp_len Ev h_9 x0 1).bind fun v_10 => ((hp_cpi Ev h_9 1 .byte x0 x1 n 0 (if (x2 - x1) < ((nI v_10) - x1) then (x2 - x1) else ((nI v_10) - x1))).bind fun h_12 => (some (n, h_12, 0, 0))))))))
abbrev rm_J9_copyOfRangeByte (k s : Nat) : Room := { frames := 1, cells := k, slots := s, locals := 60 }
set_option maxHeartbeats 4000000 in
theorem ct_J9_copyOfRangeByte (Ev : rb_E) (h : AH) (n : Nat) (x0 : Nat) (x1 : Int32) (x2 : Int32) (r : Nat) (h' : AH) (k s : Nat) (hf : f_J9_copyOfRangeByte Ev h n x0 x1 x2 = some (r, h', k, s)) : Ct Ev yJ9_copyOfRangeByte (ws_ yJ9_copyOfRangeByte cJ9_copyOfRangeByte 5 (some (.array .byte))) (rm_J9_copyOfRangeByte k s) [.ref x0, .int x1, .int x2] h n (pX (.inl (some (.ref r))) h' (n + k)) := by
  rw [f_J9_copyOfRangeByte] at hf
  refine Ct.of rfl (Nat.le_of_ble_eq_true rfl) fun X C hnm => ?_
  have C : Cx Ev X RJ9 cJ9_copyOfRangeByte 5 (some (.array .byte)) [] := C
  show Wa Ev X (rm_J9_copyOfRangeByte k s) 5 h n 0 0 (rb_MQ Ev X (rm_J9_copyOfRangeByte k s) (pX (.inl (some (.ref r))) h' (n + k))) 0 [(0, .ref x0), (1, .int x1), (2, .int x2)] []
  have hb : Bd (n + k) k s n 0 0 k s := ⟨rfl, Nat.le_of_eq (Nat.zero_add _), Nat.le_of_eq (Nat.zero_add _)⟩
  refine rb_iload_n C dJ9_copyOfRangeByte_0 rfl 1 rfl ?_
  refine rb_iload_n C dJ9_copyOfRangeByte_1 rfl 2 rfl ?_
  obtain ⟨v_2, e_3, hf⟩ := rb_bd hf
  refine rb_callS (As := [.int x1, .int x2]) (rest := []) C mi_J9_checkLength ss_J9_343 (ct_J9_checkLength Ev h n x1 x2 _ e_3) rfl rfl (Nat.le_of_ble_eq_true rfl) ⟨Nat.le_of_ble_eq_true rfl, Nat.le_of_ble_eq_true rfl, hb.c0, hb.s0⟩ dJ9_copyOfRangeByte_2 rb_xX (rb_kX (rb_w (kc := 0) (ks := 0) rfl rfl ?_))
  refine rb_iload_n C dJ9_copyOfRangeByte_5 rfl 2 rfl ?_
  refine rb_iload_n C dJ9_copyOfRangeByte_6 rfl 1 rfl ?_
  refine rb_isub C dJ9_copyOfRangeByte_7 ?_
  refine rb_istore_n (lv' := [(3, .int (x2 - x1)), (0, .ref x0), (1, .int x1), (2, .int x2)]) C dJ9_copyOfRangeByte_8 rfl (by decide) rfl ?_
  refine rb_iload_n C dJ9_copyOfRangeByte_9 rfl 0 rfl ?_
  by_cases c_g_4 : (x2 - x1) < 0 ∨ 65536 < (x2 - x1).toNatClampNeg
  · exact absurd ((if_pos c_g_4).symm.trans hf) (fun z => by cases z)
  have hf := (if_neg c_g_4).symm.trans hf
  obtain ⟨a_7, b_8, hf, ea_5, eb_6⟩ := ad_at hf
  refine rb_hnewa (atype := .byte) C 1 rfl rfl rfl q163 c_g_4 ((x2 - x1).toNatClampNeg, .inl (fun _ => 0)) (fun _ => rfl) (Bd.c1 hb ea_5) (Bd.s1 hb eb_6) dJ9_copyOfRangeByte_10 ?_
  have hb := Bd.ade hb ea_5 eb_6
  obtain ⟨h_9, e_h_9⟩ : ∃ z, z = (va_up h n (some (.inl (eA Ev 1, (x2 - x1).toNatClampNeg, .inl (fun _ => 0))))) := ⟨_, rfl⟩
  rw [← e_h_9]
  have hf := rb_let hf e_h_9
  refine rb_astore (lv' := [(4, .ref n), (3, .int (x2 - x1)), (0, .ref x0), (1, .int x1), (2, .int x2)]) C dJ9_copyOfRangeByte_12 (by decide) rfl ?_
  refine rb_aload_n C dJ9_copyOfRangeByte_14 rfl 2 rfl ?_
  refine rb_iload_n C dJ9_copyOfRangeByte_15 rfl 3 rfl ?_
  refine rb_aload C dJ9_copyOfRangeByte_16 0 rfl ?_
  refine rb_iconst (v := 0) C dJ9_copyOfRangeByte_18 rfl ?_
  refine rb_aload_n C dJ9_copyOfRangeByte_19 rfl 2 rfl ?_
  obtain ⟨v_10, e_11, hf⟩ := rb_bd hf
  refine rb_hlen (t := 1) C rfl e_11 dJ9_copyOfRangeByte_20 ?_
  refine rb_iload_n C dJ9_copyOfRangeByte_21 rfl 3 rfl ?_
  refine rb_isub C dJ9_copyOfRangeByte_22 ?_
  refine rb_iload_n C dJ9_copyOfRangeByte_23 rfl 1 rfl ?_
  refine rb_mmin C q305 q306 q81 q307 (Nat.le_of_ble_eq_true rfl) (Nat.le_of_ble_eq_true rfl) hb.c0 hb.s0 dJ9_copyOfRangeByte_24 ?_
  obtain ⟨h_12, e_13, hf⟩ := rb_bd hf
  refine rb_hcpi C 1 q308 q310 q309 q83 rfl rfl e_13 (Nat.le_of_ble_eq_true rfl) (Nat.le_of_ble_eq_true rfl) dJ9_copyOfRangeByte_27 ?_
  refine rb_aload C dJ9_copyOfRangeByte_30 0 rfl ?_
  cases hf
  exact rb_aret C rfl (Or.inr ⟨_, rfl⟩) (Or.inr ⟨_, rfl⟩) hb.e.2.1 hb.e.2.2 dJ9_copyOfRangeByte_32 ⟨rfl, rfl, hb.e.1⟩
def f_J9_copyOfRange (Ev : rb_E) (h : AH) (n : Nat) (x0 : Nat) (x1 : Int32) (x2 : Int32) : Option (Nat × AH × Nat × Nat) := (if x1 = 0 then ((hp_len Ev h x0 1).bind fun v_12 => (if x2 = (nI v_12) then ((hp_cln Ev h n 1 x0).bind fun h_15 => ((hp_len Ev h x0 1).bind fun v_16 => (ad 1 v_16 ((hp_len Ev h_15 n 1).bind fun u_23 => (some (n, h_15, 0, 0)))))) else ((f_J9_copyOfRangeByte Ev h n x0 x1 x2).bind fun (r_26, h_27, k_28, s_29) => (ad k_28 s_29 (some (r_26, h_27, 0, 0)))))) else ((f_J9_copyOfRangeByte Ev h n x0 x1 x2).bind fun (r_3, h_4, k_5, s_6) => (ad k_5 s_6 (some (r_3, h_4, 0, 0)))))
abbrev rm_J9_copyOfRange (k s : Nat) : Room := { frames := 2, cells := k, slots := s, locals := 84 }
set_option maxHeartbeats 4000000 in
theorem ct_J9_copyOfRange (Ev : rb_E) (h : AH) (n : Nat) (x0 : Nat) (x1 : Int32) (x2 : Int32) (r : Nat) (h' : AH) (k s : Nat) (hf : f_J9_copyOfRange Ev h n x0 x1 x2 = some (r, h', k, s)) : Ct Ev yJ9_copyOfRange (ws_ yJ9_copyOfRange cJ9_copyOfRange 3 (some (.array .byte))) (rm_J9_copyOfRange k s) [.ref x0, .int x1, .int x2] h n (pX (.inl (some (.ref r))) h' (n + k)) := by
  rw [f_J9_copyOfRange] at hf
  refine Ct.of rfl (Nat.le_of_ble_eq_true rfl) fun X C hnm => ?_
  have C : Cx Ev X RJ9 cJ9_copyOfRange 3 (some (.array .byte)) [] := C
  show Wa Ev X (rm_J9_copyOfRange k s) 3 h n 0 0 (rb_MQ Ev X (rm_J9_copyOfRange k s) (pX (.inl (some (.ref r))) h' (n + k))) 0 [(0, .ref x0), (1, .int x1), (2, .int x2)] []
  have hb : Bd (n + k) k s n 0 0 k s := ⟨rfl, Nat.le_of_eq (Nat.zero_add _), Nat.le_of_eq (Nat.zero_add _)⟩
  refine rb_iload_n C dJ9_copyOfRange_0 rfl 1 rfl ?_
  refine rb_if_ne (tgt := 10) C dJ9_copyOfRange_1 (by decide) (fun c_1 => ?_) (fun c_1 => ?_)
  · have hf := (if_neg c_1).symm.trans hf
    refine rb_aload_n C dJ9_copyOfRange_10 rfl 0 rfl ?_
    refine rb_iload_n C dJ9_copyOfRange_11 rfl 1 rfl ?_
    refine rb_iload_n C dJ9_copyOfRange_12 rfl 2 rfl ?_
    obtain ⟨⟨r_3, h_4, k_5, s_6⟩, e_7, hf⟩ := rb_bd hf
    obtain ⟨a_10, b_11, hf, ea_8, eb_9⟩ := ad_at hf
    refine rb_callS (As := [.ref x0, .int x1, .int x2]) (rest := []) C mi_J9_copyOfRangeByte ss_J9_339 (ct_J9_copyOfRangeByte Ev h n x0 x1 x2 r_3 _ _ _ e_7) rfl rfl (Nat.le_of_ble_eq_true rfl) ⟨Nat.le_of_ble_eq_true rfl, Nat.le_of_ble_eq_true rfl, Bd.c1 hb ea_8, Bd.s1 hb eb_9⟩ dJ9_copyOfRange_13 rb_xX (rb_kX (rb_w (kc := (0 + k_5)) (ks := (0 + s_6)) rfl rfl ?_))
    have hb := Bd.ade hb ea_8 eb_9
    cases hf
    exact rb_aret C rfl (Or.inr ⟨_, rfl⟩) (Or.inr ⟨_, rfl⟩) hb.e.2.1 hb.e.2.2 dJ9_copyOfRange_16 ⟨rfl, rfl, hb.e.1⟩
  · have hf := (if_pos c_1).symm.trans hf
    refine rb_iload_n C dJ9_copyOfRange_4 rfl 2 rfl ?_
    refine rb_aload_n C dJ9_copyOfRange_5 rfl 0 rfl ?_
    obtain ⟨v_12, e_13, hf⟩ := rb_bd hf
    refine rb_hlen (t := 1) C rfl e_13 dJ9_copyOfRange_6 ?_
    refine rb_icmp_eq (tgt := 17) C dJ9_copyOfRange_7 (by decide) (fun c_14 => ?_) (fun c_14 => ?_)
    · have hf := (if_pos c_14).symm.trans hf
      refine rb_aload_n C dJ9_copyOfRange_17 rfl 0 rfl ?_
      obtain ⟨h_15, e_17, hf⟩ := rb_bd hf
      obtain ⟨v_16, e_18, hf⟩ := rb_bd hf
      obtain ⟨a_21, b_22, hf, ea_19, eb_20⟩ := ad_at hf
      refine rb_hcln C 1 q298 q299 q300 q301 q302 q303 an_b rfl e_17 e_18 (Nat.le_of_ble_eq_true rfl) (Nat.le_of_ble_eq_true rfl) (Bd.c1 hb ea_19) (Bd.s1 hb eb_20) dJ9_copyOfRange_18 ?_
      have hb := Bd.ade hb ea_19 eb_20
      obtain ⟨u_23, e_24, hf⟩ := rb_bd hf
      refine rb_hcaA C 1 q304 an_b e_24 dJ9_copyOfRange_21 ?_
      cases hf
      exact rb_aret C rfl (Or.inr ⟨_, rfl⟩) (Or.inr ⟨_, rfl⟩) hb.e.2.1 hb.e.2.2 dJ9_copyOfRange_24 ⟨rfl, rfl, hb.e.1⟩
    · have hf := (if_neg c_14).symm.trans hf
      refine rb_aload_n C dJ9_copyOfRange_10 rfl 0 rfl ?_
      refine rb_iload_n C dJ9_copyOfRange_11 rfl 1 rfl ?_
      refine rb_iload_n C dJ9_copyOfRange_12 rfl 2 rfl ?_
      obtain ⟨⟨r_26, h_27, k_28, s_29⟩, e_30, hf⟩ := rb_bd hf
      obtain ⟨a_33, b_34, hf, ea_31, eb_32⟩ := ad_at hf
      refine rb_callS (As := [.ref x0, .int x1, .int x2]) (rest := []) C mi_J9_copyOfRangeByte ss_J9_339 (ct_J9_copyOfRangeByte Ev h n x0 x1 x2 r_26 _ _ _ e_30) rfl rfl (Nat.le_of_ble_eq_true rfl) ⟨Nat.le_of_ble_eq_true rfl, Nat.le_of_ble_eq_true rfl, Bd.c1 hb ea_31, Bd.s1 hb eb_32⟩ dJ9_copyOfRange_13 rb_xX (rb_kX (rb_w (kc := (0 + k_28)) (ks := (0 + s_29)) rfl rfl ?_))
      have hb := Bd.ade hb ea_31 eb_32
      cases hf
      exact rb_aret C rfl (Or.inr ⟨_, rfl⟩) (Or.inr ⟨_, rfl⟩) hb.e.2.1 hb.e.2.2 dJ9_copyOfRange_16 ⟨rfl, rfl, hb.e.1⟩
def f_J3_compress_2_l10_4 (Ev : rb_E) (x0 : Nat) (x2 : Nat) (x4 : Int32) : Nat → Int32 → Int32 → Int32 → AH → Nat → Option (Int32 × AH × Nat × Nat)
  | 0, _, _, _, _, _ => none
  | k_l10_4 + 1, y1_l10_4, y3_l10_4, y5_l10_4, h_l10_4, n_l10_4 => (if x4 ≤ y5_l10_4 then (some (x4, h_l10_4, 0, 0)) else ((f_J3_getChar Ev h_l10_4 x0 y1_l10_4).bind fun v_7 => (if v_7 ≤ 255 then ((hp_bs Ev h_l10_4 x2 y3_l10_4 v_7.toInt8.toInt32).bind fun h_10 => ((f_J3_compress_2_l10_4 Ev x0 x2 x4 k_l10_4) (y1_l10_4 + 1) (y3_l10_4 + 1) (y5_l10_4 + 1) h_10 n_l10_4)) else (some (y5_l10_4, h_l10_4, 0, 0)))))
def f_J3_compress_2 (Ev : rb_E) (h : AH) (n : Nat) (x0 : Nat) (x1 : Int32) (x2 : Nat) (x3 : Int32) (x4 : Int32) : Option (Int32 × AH × Nat × Nat) := ((f_J3_checkBoundsOffCount Ev h x1 x4 x0).bind fun v_2 => (f_J3_compress_2_l10_4 Ev x0 x2 x4 4096 x1 x3 0 h n))
abbrev rm_J3_compress_2 (k s : Nat) : Room := { frames := 3, cells := k, slots := s, locals := 67 }
set_option maxHeartbeats 4000000 in
theorem ct_J3_compress_2 (Ev : rb_E) (h : AH) (n : Nat) (x0 : Nat) (x1 : Int32) (x2 : Nat) (x3 : Int32) (x4 : Int32) (r : Int32) (h' : AH) (k s : Nat) (hf : f_J3_compress_2 Ev h n x0 x1 x2 x3 x4 = some (r, h', k, s)) : Ct Ev yJ3_compress_2 (ws_ yJ3_compress_2 cJ3_compress_2 7 (some .int)) (rm_J3_compress_2 k s) [.ref x0, .int x1, .ref x2, .int x3, .int x4] h n (pXi .int r h' (n + k)) := by
  rw [f_J3_compress_2] at hf
  refine Ct.of rfl (Nat.le_of_ble_eq_true rfl) fun X C hnm => ?_
  have C : Cx Ev X RJ3 cJ3_compress_2 7 (some .int) [] := C
  show Wa Ev X (rm_J3_compress_2 k s) 7 h n 0 0 (rb_MQ Ev X (rm_J3_compress_2 k s) (pXi .int r h' (n + k))) 0 [(0, .ref x0), (1, .int x1), (2, .ref x2), (3, .int x3), (4, .int x4)] []
  have hb : Bd (n + k) k s n 0 0 k s := ⟨rfl, Nat.le_of_eq (Nat.zero_add _), Nat.le_of_eq (Nat.zero_add _)⟩
  refine rb_iload_n C dJ3_compress_2_0 rfl 1 rfl ?_
  refine rb_iload C dJ3_compress_2_1 4 rfl ?_
  refine rb_aload_n C dJ3_compress_2_3 rfl 0 rfl ?_
  obtain ⟨v_2, e_3, hf⟩ := rb_bd hf
  refine rb_callS (As := [.int x1, .int x4, .ref x0]) (rest := []) C mi_J3_checkBoundsOffCount ss_J3_173 (ct_J3_checkBoundsOffCount Ev h n x1 x4 x0 _ e_3) rfl rfl (Nat.le_of_ble_eq_true rfl) ⟨Nat.le_of_ble_eq_true rfl, Nat.le_of_ble_eq_true rfl, hb.c0, hb.s0⟩ dJ3_compress_2_4 rb_xX (rb_kX (rb_w (kc := 0) (ks := 0) rfl rfl ?_))
  refine rb_iconst (v := 0) C dJ3_compress_2_7 rfl ?_
  refine rb_istore (lv' := [(5, .int 0), (0, .ref x0), (1, .int x1), (2, .ref x2), (3, .int x3), (4, .int x4)]) C dJ3_compress_2_8 (by decide) rfl ?_
  have L_l10_4 : ∀ (k_l10_4 : Nat) (y1_l10_4 : Int32) (y3_l10_4 : Int32) (y5_l10_4 : Int32) (h_l10_4 : AH) (n_l10_4 kc_l10_4 ks_l10_4 a_ b_ : Nat), f_J3_compress_2_l10_4 Ev x0 x2 x4 k_l10_4 y1_l10_4 y3_l10_4 y5_l10_4 h_l10_4 n_l10_4 = some (r, h', a_, b_) → Bd (n + k) k s n_l10_4 kc_l10_4 ks_l10_4 a_ b_ → Wa Ev X (rm_J3_compress_2 k s) 7 h_l10_4 n_l10_4 kc_l10_4 ks_l10_4 (rb_MQ Ev X (rm_J3_compress_2 k s) (pXi .int r h' (n + k))) 10 [(0, .ref x0), (1, .int y1_l10_4), (2, .ref x2), (3, .int y3_l10_4), (4, .int x4), (5, .int y5_l10_4)] [] := by
    intro k_l10_4
    induction k_l10_4 with
    | zero => intro y1_l10_4 y3_l10_4 y5_l10_4 h_l10_4 n_l10_4 kc_l10_4 ks_l10_4 a_ b_ hf hb; cases hf
    | succ k_l10_4 ih_l10_4 =>
      intro y1_l10_4 y3_l10_4 y5_l10_4 h_l10_4 n_l10_4 kc_l10_4 ks_l10_4 a_ b_ hf hb
      rw [f_J3_compress_2_l10_4] at hf
      refine rb_iload C dJ3_compress_2_10 5 rfl ?_
      refine rb_iload C dJ3_compress_2_12 4 rfl ?_
      refine rb_icmp_ge (tgt := 53) C dJ3_compress_2_14 (by decide) (fun c_5 => ?_) (fun c_5 => ?_)
      · have hf := (if_pos c_5).symm.trans hf
        refine rb_iload C dJ3_compress_2_53 4 rfl ?_
        cases hf
        exact rb_iret C rfl rfl hb.e.2.1 hb.e.2.2 dJ3_compress_2_55 ⟨rfl, rfl, hb.e.1, rfl⟩
      · have hf := (if_neg c_5).symm.trans hf
        refine rb_aload_n C dJ3_compress_2_17 rfl 0 rfl ?_
        refine rb_iload_n C dJ3_compress_2_18 rfl 1 rfl ?_
        obtain ⟨v_7, e_8, hf⟩ := rb_bd hf
        refine rb_callS (As := [.ref x0, .int y1_l10_4]) (rest := []) C mi_J3_getChar ss_J3_71 (ct_J3_getChar Ev h_l10_4 n_l10_4 x0 y1_l10_4 _ e_8) rfl rfl (Nat.le_of_ble_eq_true rfl) ⟨Nat.le_of_ble_eq_true rfl, Nat.le_of_ble_eq_true rfl, hb.c0, hb.s0⟩ dJ3_compress_2_19 rb_xXi (rb_kXi fun hn_6 => (rb_w (kc := kc_l10_4) (ks := ks_l10_4) rfl rfl ?_))
        refine rb_istore (lv' := [(6, .int v_7), (0, .ref x0), (1, .int y1_l10_4), (2, .ref x2), (3, .int y3_l10_4), (4, .int x4), (5, .int y5_l10_4)]) C dJ3_compress_2_22 (by decide) rfl ?_
        refine rb_iload C dJ3_compress_2_24 0 rfl ?_
        refine rb_sipush (v := 255) C dJ3_compress_2_26 rfl ?_
        refine rb_icmp_le (tgt := 35) C dJ3_compress_2_29 (by decide) (fun c_9 => ?_) (fun c_9 => ?_)
        · have hf := (if_pos c_9).symm.trans hf
          refine rb_aload_n C dJ3_compress_2_35 rfl 3 rfl ?_
          refine rb_iload_n C dJ3_compress_2_36 rfl 4 rfl ?_
          refine rb_iload C dJ3_compress_2_37 0 rfl ?_
          refine rb_i2b (v := v_7.toInt8.toInt32) C dJ3_compress_2_39 rfl ?_
          obtain ⟨h_10, e_11, hf⟩ := rb_bd hf
          refine rb_hbs C e_11 dJ3_compress_2_40 ?_
          refine rb_iinc (v := (y1_l10_4 + 1)) (lv' := [(1, .int (y1_l10_4 + 1)), (6, .int v_7), (0, .ref x0), (2, .ref x2), (3, .int y3_l10_4), (4, .int x4), (5, .int y5_l10_4)]) C dJ3_compress_2_41 (k := 2) rfl rfl (by decide) rfl ?_
          refine rb_iinc (v := (y3_l10_4 + 1)) (lv' := [(3, .int (y3_l10_4 + 1)), (1, .int (y1_l10_4 + 1)), (6, .int v_7), (0, .ref x0), (2, .ref x2), (4, .int x4), (5, .int y5_l10_4)]) C dJ3_compress_2_44 (k := 4) rfl rfl (by decide) rfl ?_
          refine rb_iinc (v := (y5_l10_4 + 1)) (lv' := [(5, .int (y5_l10_4 + 1)), (3, .int (y3_l10_4 + 1)), (1, .int (y1_l10_4 + 1)), (6, .int v_7), (0, .ref x0), (2, .ref x2), (4, .int x4)]) C dJ3_compress_2_47 (k := 6) rfl rfl (by decide) rfl ?_
          refine rb_goto (tgt := 10) C dJ3_compress_2_50 (by decide) ?_
          refine rb_sub [4, 2, 5, 1, 6, 0] rfl ?_
          exact ih_l10_4 (y1_l10_4 + 1) (y3_l10_4 + 1) (y5_l10_4 + 1) h_10 n_l10_4 _ _ _ _ hf hb
        · have hf := (if_neg c_9).symm.trans hf
          refine rb_iload C dJ3_compress_2_32 6 rfl ?_
          cases hf
          exact rb_iret C rfl rfl hb.e.2.1 hb.e.2.2 dJ3_compress_2_34 ⟨rfl, rfl, hb.e.1, rfl⟩
  refine rb_sub [1, 2, 3, 4, 5, 0] rfl ?_
  exact L_l10_4 4096 x1 x3 0 h n _ _ _ _ hf hb
def f_J3_compress (Ev : rb_E) (h : AH) (n : Nat) (x0 : Nat) (x1 : Int32) (x2 : Int32) : Option (Nat × AH × Nat × Nat) := (if x2 < 0 ∨ 65536 < x2.toNatClampNeg then none else (ad 1 x2.toNatClampNeg (rb_lt (va_up h n (some (.inl (eA Ev 1, x2.toNatClampNeg, .inl (fun _ => 0))))) fun h_6 => ((f_J3_compress_2 Ev h_6 (n + 1) x0 x1 n 0 x2).bind fun (r_8, h_9, k_10, s_11) => (ad k_10 s_11 (if r_8 = x2 then (some (n, h_9, 0, 0)) else ((f_J3_newBytesLength Ev h_9 (x1 + x2)).bind fun v_19 => ((f_J9_copyOfRange Ev h_9 ((n + 1) + k_10) x0 (x1 <<< (1 &&& 31)) v_19).bind fun (r_22, h_23, k_24, s_25) => (ad k_24 s_25 ((f_J3_getChar Ev h_23 r_22 r_8).bind fun v_32 => (if 255 < v_32 then (some (r_22, h_23, 0, 0)) else ((f_J3_compress_2 Ev h_23 (((n + 1) + k_10) + k_24) r_22 0 n 0 x2).bind fun (r_36, h_37, k_38, s_39) => (ad k_38 s_39 (if r_36 = x2 then (some (n, h_37, 0, 0)) else (some (r_22, h_37, 0, 0))))))))))))))))
abbrev rm_J3_compress (k s : Nat) : Room := { frames := 4, cells := k, slots := s, locals := 106 }
set_option maxHeartbeats 4000000 in
theorem ct_J3_compress (Ev : rb_E) (h : AH) (n : Nat) (x0 : Nat) (x1 : Int32) (x2 : Int32) (r : Nat) (h' : AH) (k s : Nat) (hf : f_J3_compress Ev h n x0 x1 x2 = some (r, h', k, s)) : Ct Ev yJ3_compress (ws_ yJ3_compress cJ3_compress 6 (some (.array .byte))) (rm_J3_compress k s) [.ref x0, .int x1, .int x2] h n (pX (.inl (some (.ref r))) h' (n + k)) := by
  rw [f_J3_compress] at hf
  refine Ct.of rfl (Nat.le_of_ble_eq_true rfl) fun X C hnm => ?_
  have C : Cx Ev X RJ3 cJ3_compress 6 (some (.array .byte)) [] := C
  show Wa Ev X (rm_J3_compress k s) 6 h n 0 0 (rb_MQ Ev X (rm_J3_compress k s) (pX (.inl (some (.ref r))) h' (n + k))) 0 [(0, .ref x0), (1, .int x1), (2, .int x2)] []
  have hb : Bd (n + k) k s n 0 0 k s := ⟨rfl, Nat.le_of_eq (Nat.zero_add _), Nat.le_of_eq (Nat.zero_add _)⟩
  refine rb_iload_n C dJ3_compress_0 rfl 2 rfl ?_
  by_cases c_g_1 : x2 < 0 ∨ 65536 < x2.toNatClampNeg
  · exact absurd ((if_pos c_g_1).symm.trans hf) (fun z => by cases z)
  have hf := (if_neg c_g_1).symm.trans hf
  obtain ⟨a_4, b_5, hf, ea_2, eb_3⟩ := ad_at hf
  refine rb_hnewa (atype := .byte) C 1 rfl rfl rfl q163 c_g_1 (x2.toNatClampNeg, .inl (fun _ => 0)) (fun _ => rfl) (Bd.c1 hb ea_2) (Bd.s1 hb eb_3) dJ3_compress_1 ?_
  have hb := Bd.ade hb ea_2 eb_3
  obtain ⟨h_6, e_h_6⟩ : ∃ z, z = (va_up h n (some (.inl (eA Ev 1, x2.toNatClampNeg, .inl (fun _ => 0))))) := ⟨_, rfl⟩
  rw [← e_h_6]
  have hf := rb_let hf e_h_6
  refine rb_astore_n (lv' := [(3, .ref n), (0, .ref x0), (1, .int x1), (2, .int x2)]) C dJ3_compress_3 rfl (by decide) rfl ?_
  refine rb_aload_n C dJ3_compress_4 rfl 1 rfl ?_
  refine rb_iload_n C dJ3_compress_5 rfl 2 rfl ?_
  refine rb_aload_n C dJ3_compress_6 rfl 0 rfl ?_
  refine rb_iconst (v := 0) C dJ3_compress_7 rfl ?_
  refine rb_iload_n C dJ3_compress_8 rfl 3 rfl ?_
  obtain ⟨⟨r_8, h_9, k_10, s_11⟩, e_12, hf⟩ := rb_bd hf
  obtain ⟨a_15, b_16, hf, ea_13, eb_14⟩ := ad_at hf
  refine rb_callS (As := [.ref x0, .int x1, .ref n, .int 0, .int x2]) (rest := []) C mi_J3_compress_2 ss_J3_123 (ct_J3_compress_2 Ev h_6 (n + 1) x0 x1 n 0 x2 r_8 _ _ _ e_12) rfl rfl (Nat.le_of_ble_eq_true rfl) ⟨Nat.le_of_ble_eq_true rfl, Nat.le_of_ble_eq_true rfl, Bd.c1 hb ea_13, Bd.s1 hb eb_14⟩ dJ3_compress_9 rb_xXi (rb_kXi fun hn_7 => (rb_w (kc := ((0 + 1) + k_10)) (ks := ((0 + x2.toNatClampNeg) + s_11)) rfl rfl ?_))
  have hb := Bd.ade hb ea_13 eb_14
  refine rb_istore (lv' := [(4, .int r_8), (3, .ref n), (0, .ref x0), (1, .int x1), (2, .int x2)]) C dJ3_compress_12 (by decide) rfl ?_
  refine rb_iload C dJ3_compress_14 0 rfl ?_
  refine rb_iload_n C dJ3_compress_16 rfl 4 rfl ?_
  refine rb_icmp_eq (tgt := 64) C dJ3_compress_17 (by decide) (fun c_17 => ?_) (fun c_17 => ?_)
  · have hf := (if_pos c_17).symm.trans hf
    refine rb_aload_n C dJ3_compress_64 rfl 1 rfl ?_
    cases hf
    exact rb_aret C rfl (Or.inr ⟨_, rfl⟩) (Or.inr ⟨_, rfl⟩) hb.e.2.1 hb.e.2.2 dJ3_compress_65 ⟨rfl, rfl, hb.e.1⟩
  · have hf := (if_neg c_17).symm.trans hf
    refine rb_aload_n C dJ3_compress_20 rfl 2 rfl ?_
    refine rb_iload_n C dJ3_compress_21 rfl 3 rfl ?_
    refine rb_iconst (v := 1) C dJ3_compress_22 rfl ?_
    refine rb_ishl C dJ3_compress_23 ?_
    refine rb_iload_n C dJ3_compress_24 rfl 3 rfl ?_
    refine rb_iload_n C dJ3_compress_25 rfl 4 rfl ?_
    refine rb_iadd C dJ3_compress_26 ?_
    obtain ⟨v_19, e_20, hf⟩ := rb_bd hf
    refine rb_callS (As := [.int (x1 + x2)]) (rest := [.int (x1 <<< (1 &&& 31)), .ref x0]) C mi_J3_newBytesLength ss_J3_11 (ct_J3_newBytesLength Ev h_9 ((n + 1) + k_10) (x1 + x2) _ e_20) rfl rfl (Nat.le_of_ble_eq_true rfl) ⟨Nat.le_of_ble_eq_true rfl, Nat.le_of_ble_eq_true rfl, hb.c0, hb.s0⟩ dJ3_compress_27 rb_xXi (rb_kXi fun hn_18 => (rb_w (kc := ((0 + 1) + k_10)) (ks := ((0 + x2.toNatClampNeg) + s_11)) rfl rfl ?_))
    obtain ⟨⟨r_22, h_23, k_24, s_25⟩, e_26, hf⟩ := rb_bd hf
    obtain ⟨a_29, b_30, hf, ea_27, eb_28⟩ := ad_at hf
    refine rb_callS (As := [.ref x0, .int (x1 <<< (1 &&& 31)), .int v_19]) (rest := []) C mi_J9_copyOfRange ss_J3_126 (ct_J9_copyOfRange Ev h_9 ((n + 1) + k_10) x0 (x1 <<< (1 &&& 31)) v_19 r_22 _ _ _ e_26) rfl rfl (Nat.le_of_ble_eq_true rfl) ⟨Nat.le_of_ble_eq_true rfl, Nat.le_of_ble_eq_true rfl, Bd.c1 hb ea_27, Bd.s1 hb eb_28⟩ dJ3_compress_30 rb_xX (rb_kX (rb_w (kc := (((0 + 1) + k_10) + k_24)) (ks := (((0 + x2.toNatClampNeg) + s_11) + s_25)) rfl rfl ?_))
    have hb := Bd.ade hb ea_27 eb_28
    refine rb_astore (lv' := [(5, .ref r_22), (4, .int r_8), (3, .ref n), (0, .ref x0), (1, .int x1), (2, .int x2)]) C dJ3_compress_33 (by decide) rfl ?_
    refine rb_aload C dJ3_compress_35 0 rfl ?_
    refine rb_iload C dJ3_compress_37 1 rfl ?_
    obtain ⟨v_32, e_33, hf⟩ := rb_bd hf
    refine rb_callS (As := [.ref r_22, .int r_8]) (rest := []) C mi_J3_getChar ss_J3_71 (ct_J3_getChar Ev h_23 (((n + 1) + k_10) + k_24) r_22 r_8 _ e_33) rfl rfl (Nat.le_of_ble_eq_true rfl) ⟨Nat.le_of_ble_eq_true rfl, Nat.le_of_ble_eq_true rfl, hb.c0, hb.s0⟩ dJ3_compress_39 rb_xXi (rb_kXi fun hn_31 => (rb_w (kc := (((0 + 1) + k_10) + k_24)) (ks := (((0 + x2.toNatClampNeg) + s_11) + s_25)) rfl rfl ?_))
    refine rb_sipush (v := 255) C dJ3_compress_42 rfl ?_
    refine rb_icmp_gt (tgt := 61) C dJ3_compress_45 (by decide) (fun c_34 => ?_) (fun c_34 => ?_)
    · have hf := (if_pos c_34).symm.trans hf
      refine rb_aload C dJ3_compress_61 0 rfl ?_
      cases hf
      exact rb_aret C rfl (Or.inr ⟨_, rfl⟩) (Or.inr ⟨_, rfl⟩) hb.e.2.1 hb.e.2.2 dJ3_compress_63 ⟨rfl, rfl, hb.e.1⟩
    · have hf := (if_neg c_34).symm.trans hf
      refine rb_aload C dJ3_compress_48 0 rfl ?_
      refine rb_iconst (v := 0) C dJ3_compress_50 rfl ?_
      refine rb_aload_n C dJ3_compress_51 rfl 2 rfl ?_
      refine rb_iconst (v := 0) C dJ3_compress_52 rfl ?_
      refine rb_iload_n C dJ3_compress_53 rfl 5 rfl ?_
      obtain ⟨⟨r_36, h_37, k_38, s_39⟩, e_40, hf⟩ := rb_bd hf
      obtain ⟨a_43, b_44, hf, ea_41, eb_42⟩ := ad_at hf
      refine rb_callS (As := [.ref r_22, .int 0, .ref n, .int 0, .int x2]) (rest := []) C mi_J3_compress_2 ss_J3_123 (ct_J3_compress_2 Ev h_23 (((n + 1) + k_10) + k_24) r_22 0 n 0 x2 r_36 _ _ _ e_40) rfl rfl (Nat.le_of_ble_eq_true rfl) ⟨Nat.le_of_ble_eq_true rfl, Nat.le_of_ble_eq_true rfl, Bd.c1 hb ea_41, Bd.s1 hb eb_42⟩ dJ3_compress_54 rb_xXi (rb_kXi fun hn_35 => (rb_w (kc := ((((0 + 1) + k_10) + k_24) + k_38)) (ks := ((((0 + x2.toNatClampNeg) + s_11) + s_25) + s_39)) rfl rfl ?_))
      have hb := Bd.ade hb ea_41 eb_42
      refine rb_iload_n C dJ3_compress_57 rfl 5 rfl ?_
      refine rb_icmp_eq (tgt := 64) C dJ3_compress_58 (by decide) (fun c_45 => ?_) (fun c_45 => ?_)
      · have hf := (if_pos c_45).symm.trans hf
        refine rb_aload_n C dJ3_compress_64 rfl 2 rfl ?_
        cases hf
        exact rb_aret C rfl (Or.inr ⟨_, rfl⟩) (Or.inr ⟨_, rfl⟩) hb.e.2.1 hb.e.2.2 dJ3_compress_65 ⟨rfl, rfl, hb.e.1⟩
      · have hf := (if_neg c_45).symm.trans hf
        refine rb_aload C dJ3_compress_61 0 rfl ?_
        cases hf
        exact rb_aret C rfl (Or.inr ⟨_, rfl⟩) (Or.inr ⟨_, rfl⟩) hb.e.2.1 hb.e.2.2 dJ3_compress_63 ⟨rfl, rfl, hb.e.1⟩
def f_J3_coderFromArrayLen (Ev : rb_E) (h : AH) (x0 : Nat) (x1 : Int32) : Option Int32 := ((hp_len Ev h x0 1).bind fun v_1 => (if narrow .byte (.int ((((x1 - (nI v_1)).toUInt32 >>> (Int32.toUInt32 31 &&& Int32.toUInt32 31)).toInt32).toInt8.toInt32)) = .int ((((x1 - (nI v_1)).toUInt32 >>> (Int32.toUInt32 31 &&& Int32.toUInt32 31)).toInt32).toInt8.toInt32) then (some ((((x1 - (nI v_1)).toUInt32 >>> (Int32.toUInt32 31 &&& Int32.toUInt32 31)).toInt32).toInt8.toInt32)) else none))
abbrev rm_J3_coderFromArrayLen : Room := { frames := 0, cells := 0, slots := 0, locals := 0 }
set_option maxHeartbeats 4000000 in
theorem ct_J3_coderFromArrayLen (Ev : rb_E) (h : AH) (n : Nat) (x0 : Nat) (x1 : Int32) (r : Int32) (hf : f_J3_coderFromArrayLen Ev h x0 x1 = some r) : Ct Ev yJ3_coderFromArrayLen (ws_ yJ3_coderFromArrayLen cJ3_coderFromArrayLen 2 (some .byte)) (rm_J3_coderFromArrayLen) [.ref x0, .int x1] h n (pXi .byte r h n) := by
  rw [f_J3_coderFromArrayLen] at hf
  refine Ct.of rfl (Nat.le_of_ble_eq_true rfl) fun X C hnm => ?_
  have C : Cx Ev X RJ3 cJ3_coderFromArrayLen 2 (some .byte) [] := C
  show Wa Ev X (rm_J3_coderFromArrayLen) 2 h n 0 0 (rb_MQ Ev X (rm_J3_coderFromArrayLen) (pXi .byte r h n)) 0 [(0, .ref x0), (1, .int x1)] []
  refine rb_iload_n C dJ3_coderFromArrayLen_0 rfl 1 rfl ?_
  refine rb_aload_n C dJ3_coderFromArrayLen_1 rfl 0 rfl ?_
  obtain ⟨v_1, e_2, hf⟩ := rb_bd hf
  refine rb_hlen (t := 1) C rfl e_2 dJ3_coderFromArrayLen_2 ?_
  refine rb_isub C dJ3_coderFromArrayLen_3 ?_
  refine rb_bipush (v := 31) C dJ3_coderFromArrayLen_4 rfl ?_
  refine rb_iushr (v := ((x1 - (nI v_1)).toUInt32 >>> (Int32.toUInt32 31 &&& Int32.toUInt32 31)).toInt32) C dJ3_coderFromArrayLen_6 rfl ?_
  refine rb_i2b (v := (((x1 - (nI v_1)).toUInt32 >>> (Int32.toUInt32 31 &&& Int32.toUInt32 31)).toInt32).toInt8.toInt32) C dJ3_coderFromArrayLen_7 rfl ?_
  by_cases c_g_3 : narrow .byte (.int ((((x1 - (nI v_1)).toUInt32 >>> (Int32.toUInt32 31 &&& Int32.toUInt32 31)).toInt32).toInt8.toInt32)) = .int ((((x1 - (nI v_1)).toUInt32 >>> (Int32.toUInt32 31 &&& Int32.toUInt32 31)).toInt32).toInt8.toInt32)
  rotate_left
  · exact absurd ((if_neg c_g_3).symm.trans hf) (fun z => by cases z)
  have hf := (if_pos c_g_3).symm.trans hf
  cases hf
  exact rb_iret C rfl c_g_3 (Nat.zero_le _) (Nat.zero_le _) dJ3_coderFromArrayLen_8 ⟨rfl, rfl, rfl, c_g_3⟩
