set_option maxRecDepth 100000
set_option linter.unusedVariables false
theorem q2249 : (Jvm.Cond.instanceMethod ({ cls := "java/lang/Throwable", name := "getCause", desc := "()Ljava/lang/Throwable;" } : Jvm.MethodName)) ∈ lw_all := lw_g (lw_at lw_m10 21 rfl) rfl
theorem q2250 : (Jvm.Cond.codeSync ({ cls := "java/lang/Throwable", name := "getCause", desc := "()Ljava/lang/Throwable;" } : Jvm.MethodName) prog_51_method_8_code (1 : Nat) (Option.some (Jvm.ClassFile.FieldType.object "java/lang/Throwable"))) ∈ lw_all := lw_g (lw_at lw_m10 22 rfl) rfl
theorem dksX6_behind_1 : cX6_behind.data.toList.drop 24 = dktX6_behind_1 := dk_seg dksX6_behind_0 24 rfl rfl
theorem dX6_behind_4 : decode cX6_behind 4 = .ok (.astore_n 2, 1) := dk_77 (dk_at dksX6_behind_0 4 rfl rfl)
theorem dX6_behind_5 : decode cX6_behind 5 = .ok (.aload_n 2, 1) := dk_44 (dk_at dksX6_behind_0 5 rfl rfl)
theorem dX6_behind_6 : decode cX6_behind 6 = .ok (.instanceof 2, 3) := dk_193 0 2 (dk_at dksX6_behind_0 6 rfl rfl)
theorem dX6_behind_9 : decode cX6_behind 9 = .ok (.ifCond .eq 15, 3) := dk_153 0 15 (dk_at dksX6_behind_0 9 rfl rfl)
theorem dX6_behind_12 : decode cX6_behind 12 = .ok (.aload_n 2, 1) := dk_44 (dk_at dksX6_behind_0 12 rfl rfl)
theorem dX6_behind_13 : decode cX6_behind 13 = .ok (.checkcast 2, 3) := dk_192 0 2 (dk_at dksX6_behind_0 13 rfl rfl)
theorem dX6_behind_16 : decode cX6_behind 16 = .ok (.astore_n 1, 1) := dk_76 (dk_at dksX6_behind_0 16 rfl rfl)
theorem dX6_behind_17 : decode cX6_behind 17 = .ok (.aload_n 1, 1) := dk_43 (dk_at dksX6_behind_0 17 rfl rfl)
theorem dX6_behind_18 : decode cX6_behind 18 = .ok (.invokestatic 23, 3) := dk_184 0 23 (dk_at dksX6_behind_0 18 rfl rfl)
theorem dX6_behind_21 : decode cX6_behind 21 = .ok (.goto 6, 3) := dk_167 0 6 (dk_at dksX6_behind_0 21 rfl rfl)
theorem dX6_behind_24 : decode cX6_behind 24 = .ok (.invokestatic 29, 3) := dk_184 0 29 (dk_at dksX6_behind_1 0 rfl rfl)
theorem dX6_behind_27 : decode cX6_behind 27 = .ok (.areturn, 1) := dk_176 (dk_at dksX6_behind_1 3 rfl rfl)
theorem q2246 : (Jvm.Cond.sameMethod "RainbowOperators$Denial" "java/lang/Throwable" "getCause" "()Ljava/lang/Throwable;") ∈ lw_all := lw_g (lw_at lw_m10 18 rfl) rfl
theorem q2248 : (Jvm.Cond.selects "RainbowOperators$Denial" ({ cls := "RainbowOperators$Denial", name := "getCause", desc := "()Ljava/lang/Throwable;" } : Jvm.MethodName) ({ cls := "java/lang/Throwable", name := "getCause", desc := "()Ljava/lang/Throwable;" } : Jvm.MethodName)) ∈ lw_all := lw_g (lw_at lw_m10 20 rfl) rfl
theorem q2251 : (Jvm.Cond.classLink "RainbowOperators$Denial" (2 : Nat) "RainbowOperators$Denial") ∈ lw_all := lw_g (lw_at lw_m10 23 rfl) rfl
theorem q2252 : (Jvm.Cond.methodLink "RainbowOperators$Denial" (23 : Nat) ({ cls := "java/util/Optional", name := "of", desc := "(Ljava/lang/Object;)Ljava/util/Optional;" } : Jvm.MethodName)) ∈ lw_all := lw_g (lw_at lw_m10 24 rfl) rfl
theorem q2253 : (Jvm.Cond.methodLink "RainbowOperators$Denial" (29 : Nat) ({ cls := "java/util/Optional", name := "empty", desc := "()Ljava/util/Optional;" } : Jvm.MethodName)) ∈ lw_all := lw_g (lw_at lw_m10 25 rfl) rfl
theorem gb_gc : GB prog_51_method_8_code := ⟨by decide +kernel, by decide +kernel, by decide +kernel, by decide +kernel, by decide +kernel, by decide +kernel, by decide +kernel⟩
theorem gz_X6 : GZ "RainbowOperators$Denial" 19 "RainbowOperators$Denial" prog_51_method_8_code := ⟨q2245, q2246, q2248, q2249, q2250⟩
theorem ss_X6_29 : SS RX6 29 yJ28_empty := ⟨q2253, q2100⟩
theorem okn_RainbowOperators_Denial : ∀ c ∈ ([] : List Nat), OkN "RainbowOperators$Denial" c := by
  intro c hc
  exact absurd hc List.not_mem_nil
theorem ss_X6_23 : SS RX6 23 yJ28_of := ⟨q2252, q2083⟩
def f_Y6_behind (Ev : rb_E) (h : AH) (n : Nat) (o : Nat) : Option (Nat × AH × Nat × Nat) := ((hp_gc h o).bind fun v_1 => (match v_1 with | none => ((f_J28_empty Ev h ).bind fun v_4 => (some (v_4, h, 0, 0))) | some v_1_q => ((hp_isa Ev h v_1_q [4] []).bind fun v_6 => (if v_6 = 0 then ((f_J28_empty Ev h ).bind fun v_10 => (some (v_10, h, 0, 0))) else ((hp_ca Ev h v_1_q [4]).bind fun u_12 => ((f_J28_of Ev h n v_1_q).bind fun (r_15, h_16, k_17, s_18) => (ad k_17 s_18 (some (r_15, h_16, 0, 0)))))))))
abbrev rm_Y6_behind (k s : Nat) : Room := { frames := 3, cells := k, slots := s, locals := 81 }
set_option maxHeartbeats 4000000 in
theorem ct_Y6_behind (Ev : rb_E) (h : AH) (n : Nat) (o : Nat) (r : Nat) (h' : AH) (k s : Nat) (hf : f_Y6_behind Ev h n o = some (r, h', k, s)) : Ct Ev yX6_behind (ws_ yX6_behind cX6_behind 3 (some (.object "java/util/Optional"))) (rm_Y6_behind k s) [.ref o] h n (pX (.inl (some (.ref r))) h' (n + k)) := by
  rw [f_Y6_behind] at hf
  refine Ct.of rfl (Nat.le_of_ble_eq_true rfl) fun X C hnm => ?_
  have C : Cx Ev X RX6 cX6_behind 3 (some (.object "java/util/Optional")) [] := C
  show Wa Ev X (rm_Y6_behind k s) 3 h n 0 0 (rb_MQ Ev X (rm_Y6_behind k s) (pX (.inl (some (.ref r))) h' (n + k))) 0 [(0, .ref o)] []
  have hb : Bd (n + k) k s n 0 0 k s := ⟨rfl, Nat.le_of_eq (Nat.zero_add _), Nat.le_of_eq (Nat.zero_add _)⟩
  refine rb_aload_n C dX6_behind_0 rfl 0 rfl ?_
  obtain ⟨v_1, e_2, hf⟩ := rb_bd hf
  refine rb_hgc C ck_X6 fz_J24 gz_X6 gb_gc (by decide) ⟨rfl, rfl, rfl⟩ e_2 (Nat.le_of_ble_eq_true rfl) (Nat.le_of_ble_eq_true rfl) dX6_behind_1 ?_
  cases v_1 with
  | none =>
    dsimp only at hf
    refine rb_astore_nN (lv' := [(2, .null), (0, .ref o)]) C dX6_behind_4 rfl (by decide) rfl ?_
    refine rb_aload_nN C dX6_behind_5 rfl 0 rfl ?_
    refine rb_instN C dX6_behind_6 ?_
    refine rb_if_eq (tgt := 24) C dX6_behind_9 (by decide) (fun _ => ?_) (fun c => absurd (by decide) c) 
    obtain ⟨v_4, e_5, hf⟩ := rb_bd hf
    refine rb_callS (As := []) (rest := []) C mi_J28_empty ss_X6_29 (ct_J28_empty Ev h n  _ e_5) rfl rfl (Nat.le_of_ble_eq_true rfl) ⟨Nat.le_of_ble_eq_true rfl, Nat.le_of_ble_eq_true rfl, hb.c0, hb.s0⟩ dX6_behind_24 rb_xX (rb_kX (rb_w (kc := 0) (ks := 0) rfl rfl ?_))
    cases hf
    exact rb_aret C rfl (Or.inl ⟨_, rfl⟩) (Or.inr ⟨_, rfl⟩) hb.e.2.1 hb.e.2.2 dX6_behind_27 ⟨rfl, rfl, hb.e.1⟩
  | some v_1_q =>
    dsimp only at hf
    refine rb_astore_n (lv' := [(2, .ref v_1_q), (0, .ref o)]) C dX6_behind_4 rfl (by decide) rfl ?_
    refine rb_aload_n C dX6_behind_5 rfl 0 rfl ?_
    obtain ⟨v_6, e_7, hf⟩ := rb_bd hf
    refine rb_hin C q2251 okp_RainbowOperators_Denial okn_RainbowOperators_Denial e_7 dX6_behind_6 ?_
    refine rb_if_eq (tgt := 24) C dX6_behind_9 (by decide) (fun c_8 => ?_) (fun c_8 => ?_)
    · have hf := (if_pos c_8).symm.trans hf
      obtain ⟨v_10, e_11, hf⟩ := rb_bd hf
      refine rb_callS (As := []) (rest := []) C mi_J28_empty ss_X6_29 (ct_J28_empty Ev h n  _ e_11) rfl rfl (Nat.le_of_ble_eq_true rfl) ⟨Nat.le_of_ble_eq_true rfl, Nat.le_of_ble_eq_true rfl, hb.c0, hb.s0⟩ dX6_behind_24 rb_xX (rb_kX (rb_w (kc := 0) (ks := 0) rfl rfl ?_))
      cases hf
      exact rb_aret C rfl (Or.inl ⟨_, rfl⟩) (Or.inr ⟨_, rfl⟩) hb.e.2.1 hb.e.2.2 dX6_behind_27 ⟨rfl, rfl, hb.e.1⟩
    · have hf := (if_neg c_8).symm.trans hf
      refine rb_aload_n C dX6_behind_12 rfl 0 rfl ?_
      obtain ⟨u_12, e_13, hf⟩ := rb_bd hf
      refine rb_hca C q2251 okp_RainbowOperators_Denial e_13 dX6_behind_13 ?_
      refine rb_astore_n (lv' := [(1, .ref v_1_q), (2, .ref v_1_q), (0, .ref o)]) C dX6_behind_16 rfl (by decide) rfl ?_
      refine rb_aload_n C dX6_behind_17 rfl 0 rfl ?_
      obtain ⟨⟨r_15, h_16, k_17, s_18⟩, e_19, hf⟩ := rb_bd hf
      obtain ⟨a_22, b_23, hf, ea_20, eb_21⟩ := ad_at hf
      refine rb_callS (As := [.ref v_1_q]) (rest := []) C mi_J28_of ss_X6_23 (ct_J28_of Ev h n v_1_q r_15 _ _ _ e_19) rfl rfl (Nat.le_of_ble_eq_true rfl) ⟨Nat.le_of_ble_eq_true rfl, Nat.le_of_ble_eq_true rfl, Bd.c1 hb ea_20, Bd.s1 hb eb_21⟩ dX6_behind_18 rb_xX (rb_kX (rb_w (kc := (0 + k_17)) (ks := (0 + s_18)) rfl rfl ?_))
      have hb := Bd.ade hb ea_20 eb_21
      refine rb_goto (tgt := 27) C dX6_behind_21 (by decide) ?_
      cases hf
      exact rb_aret C rfl (Or.inl ⟨_, rfl⟩) (Or.inr ⟨_, rfl⟩) hb.e.2.1 hb.e.2.2 dX6_behind_27 ⟨rfl, rfl, hb.e.1⟩
def f_Y1_denialCause (Ev : rb_E) (h : AH) (n : Nat) (o : Nat) : Option ((Int32 ⊕ (String × Nat)) × AH × Nat × Nat) := ((hp_k Ev h o 0).bind fun u_1 => ((f_X1_latestDenial Ev h n o).bind fun (r_4, h_5, k_6, s_7) => (ad k_6 s_7 (match r_4 with | .inl v_13 => ((hp_k Ev h_5 v_13 4).bind fun u_16 => ((f_Y6_behind Ev h_5 (n + k_6) v_13).bind fun (r_19, h_20, k_21, s_22) => (ad k_21 s_22 ((hp_k Ev h_20 r_19 28).bind fun u_28 => ((f_J28_isPresent Ev h_20 r_19).bind fun v_31 => ((f_X1_requireElement Ev h_20 ((n + k_6) + k_21) v_31).bind fun (r_34, h_35, k_36, s_37) => (ad k_36 s_37 (match r_34 with | .inl v_43 => ((hp_k Ev h_35 r_19 28).bind fun u_46 => ((f_J28_get Ev h_35 r_19).bind fun v_49 => ((hp_ca Ev h_35 v_49 [4]).bind fun u_51 => ((hp_i Ev h_35 v_49 4 6).bind fun v_53 => (some (.inl v_53, h_35, 0, 0)))))) | .inr (E_44, q_45) => (if E_44 = "java/util/NoSuchElementException" then (some (.inr ("java/util/NoSuchElementException", q_45), h_35, 0, 0)) else none))))))))) | .inr (E_14, q_15) => (if E_14 = "java/util/NoSuchElementException" then (some (.inr ("java/util/NoSuchElementException", q_15), h_5, 0, 0)) else none)))))
abbrev rm_Y1_denialCause (k s : Nat) : Room := { frames := 8, cells := k, slots := s, locals := 129 }
set_option maxHeartbeats 4000000 in
theorem ct_Y1_denialCause (Ev : rb_E) (h : AH) (n : Nat) (o : Nat) (r : Int32 ⊕ (String × Nat)) (h' : AH) (k s : Nat) (hf : f_Y1_denialCause Ev h n o = some (r, h', k, s)) : Ct Ev yX1_denialCause (ws_ yX1_denialCause cX1_denialCause 2 (some .int)) (rm_Y1_denialCause k s) [.ref o] h n (pX (rMap (fun v => some (.int v)) r) h' (n + k)) := by
  rw [f_Y1_denialCause] at hf
  refine Ct.of rfl (Nat.le_of_ble_eq_true rfl) fun X C hnm => ?_
  have C : Cx Ev X RX1 cX1_denialCause 2 (some .int) [] := C
  show Wa Ev X (rm_Y1_denialCause k s) 2 h n 0 0 (rb_MQ Ev X (rm_Y1_denialCause k s) (pX (rMap (fun v => some (.int v)) r) h' (n + k))) 0 [(0, .ref o)] []
  have hb : Bd (n + k) k s n 0 0 k s := ⟨rfl, Nat.le_of_eq (Nat.zero_add _), Nat.le_of_eq (Nat.zero_add _)⟩
  refine rb_aload_n C dX1_denialCause_0 rfl 0 rfl ?_
  obtain ⟨u_1, e_2, hf⟩ := rb_bd hf
  obtain ⟨⟨r_4, h_5, k_6, s_7⟩, e_8, hf⟩ := rb_bd hf
  obtain ⟨a_11, b_12, hf, ea_9, eb_10⟩ := ad_at hf
  rcases r_4 with v_13 | ⟨E_14, q_15⟩
  · dsimp only at hf
    refine rb_callV (As := []) (rest := []) C mi_X1_latestDenial sv_X1_391 (hp_k_isC C.pf e_2 ck_X1) (ct_X1_latestDenial Ev h n o (.inl v_13) _ _ _ e_8) rfl rfl (Nat.le_of_ble_eq_true rfl) ⟨Nat.le_of_ble_eq_true rfl, Nat.le_of_ble_eq_true rfl, Bd.c1 hb ea_9, Bd.s1 hb eb_10⟩ dX1_denialCause_1 rb_xX (rb_kX (r := some (.ref v_13)) (rb_w (kc := (0 + k_6)) (ks := (0 + s_7)) rfl rfl ?_))
    have hb := Bd.ade hb ea_9 eb_10
    obtain ⟨u_16, e_17, hf⟩ := rb_bd hf
    obtain ⟨⟨r_19, h_20, k_21, s_22⟩, e_23, hf⟩ := rb_bd hf
    obtain ⟨a_26, b_27, hf, ea_24, eb_25⟩ := ad_at hf
    refine rb_callV (As := []) (rest := []) C mi_X6_behind sv_X1_401 (hp_k_isC C.pf e_17 ck_X6) (ct_Y6_behind Ev h_5 (n + k_6) v_13 r_19 _ _ _ e_23) rfl rfl (Nat.le_of_ble_eq_true rfl) ⟨Nat.le_of_ble_eq_true rfl, Nat.le_of_ble_eq_true rfl, Bd.c1 hb ea_24, Bd.s1 hb eb_25⟩ dX1_denialCause_4 rb_xX (rb_kX (rb_w (kc := ((0 + k_6) + k_21)) (ks := ((0 + s_7) + s_22)) rfl rfl ?_))
    have hb := Bd.ade hb ea_24 eb_25
    refine rb_astore_n (lv' := [(1, .ref r_19), (0, .ref o)]) C dX1_denialCause_7 rfl (by decide) rfl ?_
    refine rb_aload_n C dX1_denialCause_8 rfl 0 rfl ?_
    obtain ⟨u_28, e_29, hf⟩ := rb_bd hf
    obtain ⟨v_31, e_32, hf⟩ := rb_bd hf
    refine rb_callV (As := []) (rest := []) C mi_J28_isPresent sv_X1_380 (hp_k_isC C.pf e_29 ck_J28) (ct_J28_isPresent Ev h_20 ((n + k_6) + k_21) r_19 _ e_32) rfl rfl (Nat.le_of_ble_eq_true rfl) ⟨Nat.le_of_ble_eq_true rfl, Nat.le_of_ble_eq_true rfl, hb.c0, hb.s0⟩ dX1_denialCause_9 rb_xXi (rb_kXi fun hn_30 => (rb_w (kc := ((0 + k_6) + k_21)) (ks := ((0 + s_7) + s_22)) rfl rfl ?_))
    obtain ⟨⟨r_34, h_35, k_36, s_37⟩, e_38, hf⟩ := rb_bd hf
    obtain ⟨a_41, b_42, hf, ea_39, eb_40⟩ := ad_at hf
    rcases r_34 with v_43 | ⟨E_44, q_45⟩
    · dsimp only at hf
      refine rb_callS (As := [.int v_31]) (rest := []) C mi_X1_requireElement ss_X1_202 (ct_X1_requireElement Ev h_20 ((n + k_6) + k_21) v_31 (.inl v_43) _ _ _ e_38) rfl rfl (Nat.le_of_ble_eq_true rfl) ⟨Nat.le_of_ble_eq_true rfl, Nat.le_of_ble_eq_true rfl, Bd.c1 hb ea_39, Bd.s1 hb eb_40⟩ dX1_denialCause_12 rb_xX (rb_kX (r := none) (rb_w (kc := (((0 + k_6) + k_21) + k_36)) (ks := (((0 + s_7) + s_22) + s_37)) rfl rfl ?_))
      have hb := Bd.ade hb ea_39 eb_40
      refine rb_aload_n C dX1_denialCause_15 rfl 0 rfl ?_
      obtain ⟨u_46, e_47, hf⟩ := rb_bd hf
      obtain ⟨v_49, e_50, hf⟩ := rb_bd hf
      refine rb_callV (As := []) (rest := []) C mi_J28_get sv_X1_383 (hp_k_isC C.pf e_47 ck_J28) (ct_J28_get Ev h_35 (((n + k_6) + k_21) + k_36) r_19 _ e_50) rfl rfl (Nat.le_of_ble_eq_true rfl) ⟨Nat.le_of_ble_eq_true rfl, Nat.le_of_ble_eq_true rfl, hb.c0, hb.s0⟩ dX1_denialCause_16 rb_xX (rb_kX (rb_w (kc := (((0 + k_6) + k_21) + k_36)) (ks := (((0 + s_7) + s_22) + s_37)) rfl rfl ?_))
      obtain ⟨u_51, e_52, hf⟩ := rb_bd hf
      refine rb_hca C q261 okp_RainbowOperators_Denial e_52 dX1_denialCause_19 ?_
      obtain ⟨v_53, e_54, hf⟩ := rb_bd hf
      refine rb_hI C fl_X1_395_X6 e_54 dX1_denialCause_22 ?_
      cases hf
      exact rb_iret C rfl rfl hb.e.2.1 hb.e.2.2 dX1_denialCause_25 ⟨rfl, rfl, hb.e.1⟩
    · dsimp only at hf
      by_cases c_55 : E_44 = "java/util/NoSuchElementException"
      · have hf := (if_pos c_55).symm.trans hf
        subst c_55
        refine rb_callS (As := [.int v_31]) (rest := []) C mi_X1_requireElement ss_X1_202 (ct_X1_requireElement Ev h_20 ((n + k_6) + k_21) v_31 (.inr ("java/util/NoSuchElementException", q_45)) _ _ _ e_38) rfl rfl (Nat.le_of_ble_eq_true rfl) ⟨Nat.le_of_ble_eq_true rfl, Nat.le_of_ble_eq_true rfl, Bd.c1 hb ea_39, Bd.s1 hb eb_40⟩ dX1_denialCause_12 (rb_xY (E := "java/util/NoSuchElementException") (rb_wX (kc := (((0 + k_6) + k_21) + k_36)) (ks := (((0 + s_7) + s_22) + s_37)) rfl rfl ?_)) rb_kY
        have hb := Bd.ade hb ea_39 eb_40
        cases hf
        exact rb_out C (fun _ z => absurd z List.not_mem_nil) hb.e.2.1 hb.e.2.2 ⟨rfl, rfl, hb.e.1⟩
      have hf := (if_neg c_55).symm.trans hf
      cases hf
  · dsimp only at hf
    by_cases c_56 : E_14 = "java/util/NoSuchElementException"
    · have hf := (if_pos c_56).symm.trans hf
      subst c_56
      refine rb_callV (As := []) (rest := []) C mi_X1_latestDenial sv_X1_391 (hp_k_isC C.pf e_2 ck_X1) (ct_X1_latestDenial Ev h n o (.inr ("java/util/NoSuchElementException", q_15)) _ _ _ e_8) rfl rfl (Nat.le_of_ble_eq_true rfl) ⟨Nat.le_of_ble_eq_true rfl, Nat.le_of_ble_eq_true rfl, Bd.c1 hb ea_9, Bd.s1 hb eb_10⟩ dX1_denialCause_1 (rb_xY (E := "java/util/NoSuchElementException") (rb_wX (kc := (0 + k_6)) (ks := (0 + s_7)) rfl rfl ?_)) rb_kY
      have hb := Bd.ade hb ea_9 eb_10
      cases hf
      exact rb_out C (fun _ z => absurd z List.not_mem_nil) hb.e.2.1 hb.e.2.2 ⟨rfl, rfl, hb.e.1⟩
    have hf := (if_neg c_56).symm.trans hf
    cases hf
