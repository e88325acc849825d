set_option maxRecDepth 100000
set_option linter.unusedVariables false
def f_X4_operandValue (S : Nat → Int32) (A : Nat → Nat → Int32) (x1 : Int32) : Option Int32 := (if (f_X4_isSky x1) = 0 then (some (x1 - 48)) else if (((39 + x1) - 65) < 0 ∨ 44 ≤ ((39 + x1) - 65).toNatClampNeg) then none else (some ((A 0) ((39 + x1) - 65).toNatClampNeg)))
abbrev rm_X4_operandValue : Room := { frames := 2, cells := 0, slots := 0, locals := 42 }
set_option maxHeartbeats 4000000 in
theorem ct_X4_operandValue (Ev : rb_E) (h : AH) (n : Nat) (o : Nat) (a : Nat → Nat) (S : Nat → Int32) (A : Nat → Nat → Int32) (x1 : Int32) (rv : Int32) (hM : MD Ev h o a S A) (hf : f_X4_operandValue S A x1 = some rv) : Ct Ev yX4_operandValue (ws_ yX4_operandValue cX4_operandValue 2 (some .int)) rm_X4_operandValue [.ref o, .int x1] h n (pR .int rv h n) := by
  refine Ct.of rfl (Nat.le_of_ble_eq_true rfl) fun X C hnm => ?_
  have C : Cx Ev X RX4 cX4_operandValue 2 (some .int) [] := C
  show Wa Ev X rm_X4_operandValue 2 h n 0 0 (rb_MQ Ev X rm_X4_operandValue (pR .int rv h n)) 0 [(0, .ref o), (1, .int x1)] []
  have hF : mdFr h h o a := mdFr.rf
  rw [f_X4_operandValue] at hf
  refine rb_iload_n C dX4_operandValue_0 rfl 1 rfl ?_
  refine rb_zSR C mi_X4_isSky ss_X4_107 (ct_X4_isSky Ev h n x1 _ rfl) (rest := []) rfl rfl (Nat.le_of_ble_eq_true rfl) ⟨Nat.le_of_ble_eq_true rfl, Nat.le_of_ble_eq_true rfl⟩ ⟨Nat.zero_le _, Nat.zero_le _⟩ dX4_operandValue_1 (fun hn_1 => ?_)
  refine rb_if_eq (tgt := 22) C dX4_operandValue_4 (by decide) (fun c_2 => ?_) (fun c_2 => ?_)
  · have hf := (if_pos c_2).symm.trans hf
    refine rb_iload_n C dX4_operandValue_22 rfl 1 rfl ?_
    refine rb_bipush (v := 48) C dX4_operandValue_23 rfl ?_
    refine rb_isub C dX4_operandValue_25 ?_
    cases hf
    exact rb_iret C rfl rfl (Nat.zero_le _) (Nat.zero_le _) dX4_operandValue_26 ⟨rfl, rfl, rfl, rfl⟩
  · have hf := (if_neg c_2).symm.trans hf
    refine rb_aload_n C dX4_operandValue_7 rfl 0 rfl ?_
    refine rb_get (v := .ref (a 0)) C fl_X4_7_X4 (Or.inl hM.1) rfl dX4_operandValue_8 ?_
    refine rb_bipush (v := 39) C dX4_operandValue_11 rfl ?_
    refine rb_iload_n C dX4_operandValue_13 rfl 1 rfl ?_
    refine rb_iadd C dX4_operandValue_14 ?_
    refine rb_bipush (v := 65) C dX4_operandValue_15 rfl ?_
    refine rb_isub C dX4_operandValue_17 ?_
    by_cases c_g : (((39 + x1) - 65) < 0 ∨ 44 ≤ ((39 + x1) - 65).toNatClampNeg)
    · exact absurd ((if_pos c_g).symm.trans hf) (fun z => by cases z)
    have hf := (if_neg c_g).symm.trans hf
    refine rb_iald (f := (A 0)) C (Or.inl (hM.2.1 0 rfl)) (rb_nN c_g) dX4_operandValue_18 ?_
    refine rb_goto (tgt := 26) C dX4_operandValue_19 (by decide) ?_
    cases hf
    exact rb_iret C rfl rfl (Nat.zero_le _) (Nat.zero_le _) dX4_operandValue_26 ⟨rfl, rfl, rfl, rfl⟩
def f_X4_worth : Nat → (Nat → Int32) → (Nat → Nat → Int32) → Int32 → Int32 → Option Int32
  | 0, _, _, _, _ => none
  | d + 1, S, A, x1, x2 => ((f_X4_split S A x1 x2).bind fun v_3 => (if v_3 < 0 then if (x1 < 0 ∨ 24 ≤ x1.toNatClampNeg) then none else (if ((A 17) x1.toNatClampNeg) = 126 then (((f_X4_worth d) S A (x1 + 1) x2).bind fun v_18 => (some (999 - v_18))) else if (x1 < 0 ∨ 24 ≤ x1.toNatClampNeg) then none else (if ((A 17) x1.toNatClampNeg) = 40 then (((f_X4_worth d) S A (x1 + 1) (x2 - 1)).bind fun v_14 => (some v_14)) else if (x1 < 0 ∨ 24 ≤ x1.toNatClampNeg) then none else ((f_X4_operandValue S A ((A 17) x1.toNatClampNeg)).bind fun v_10 => (some v_10)))) else (((f_X4_worth d) S A x1 v_3).bind fun v_22 => if (v_3 < 0 ∨ 24 ≤ v_3.toNatClampNeg) then none else if ((32 + (f_X4_signOf ((A 17) v_3.toNatClampNeg))) < 0 ∨ 44 ≤ (32 + (f_X4_signOf ((A 17) v_3.toNatClampNeg))).toNatClampNeg) then none else (((f_X4_worth d) S A (v_3 + 1) x2).bind fun v_27 => (some (f_X4_makes ((A 0) (32 + (f_X4_signOf ((A 17) v_3.toNatClampNeg))).toNatClampNeg) v_22 v_27))))))
abbrev rm_X4_worth (d : Nat) : Room := { frames := 6 + d, cells := 0, slots := 0, locals := 200 + 60 * d }
set_option maxHeartbeats 4000000 in
theorem ct_X4_worth (Ev : rb_E) (h : AH) (n : Nat) (d : Nat) (o : Nat) (a : Nat → Nat) (S : Nat → Int32) (A : Nat → Nat → Int32) (x1 : Int32) (x2 : Int32) (rv : Int32) (hM : MD Ev h o a S A) (hf : f_X4_worth d S A x1 x2 = some rv) : Ct Ev yX4_worth (ws_ yX4_worth cX4_worth 5 (some .int)) (rm_X4_worth d) [.ref o, .int x1, .int x2] h n (pR .int rv h n) := by
  induction d generalizing h S A x1 x2 rv with
  | zero => cases hf
  | succ d ih =>
    refine Ct.of rfl (Nat.le_of_ble_eq_true rfl) fun X C hnm => ?_
    have C : Cx Ev X RX4 cX4_worth 5 (some .int) [] := C
    show Wa Ev X (rm_X4_worth (d + 1)) 5 h n 0 0 (rb_MQ Ev X (rm_X4_worth (d + 1)) (pR .int rv h n)) 0 [(0, .ref o), (1, .int x1), (2, .int x2)] []
    have hF : mdFr h h o a := mdFr.rf
    rw [f_X4_worth] at hf
    refine rb_aload_n C dX4_worth_0 rfl 0 rfl ?_
    refine rb_iload_n C dX4_worth_1 rfl 1 rfl ?_
    refine rb_iload_n C dX4_worth_2 rfl 2 rfl ?_
    obtain ⟨v_3, e_2, hf⟩ := rb_bd hf
    refine rb_zVR C mi_X4_split sv_X4_173 (IsC.of (Or.inl hM.1) ck_X4) (ct_X4_split Ev h n o a S A x1 x2 _ hM e_2) (rest := []) rfl rfl (Nat.le_of_ble_eq_true rfl) ⟨by show _ + 1 ≤ 6 + (d + 1); omega, by show _ ≤ 200 + 60 * (d + 1); omega⟩ ⟨Nat.zero_le _, Nat.zero_le _⟩ dX4_worth_3 (fun hn_4 => ?_)
    refine rb_istore_n (lv' := [(3, .int v_3), (0, .ref o), (1, .int x1), (2, .int x2)]) C dX4_worth_6 rfl (by decide) rfl ?_
    refine rb_iload_n C dX4_worth_7 rfl 0 rfl ?_
    refine rb_if_lt (tgt := 50) C dX4_worth_8 (by decide) (fun c_5 => ?_) (fun c_5 => ?_)
    · have hf := (if_pos c_5).symm.trans hf
      refine rb_aload_n C dX4_worth_50 rfl 1 rfl ?_
      refine rb_get (v := .ref (a 17)) C fl_X4_33_X4 (Or.inl hM.1) rfl dX4_worth_51 ?_
      refine rb_iload_n C dX4_worth_54 rfl 2 rfl ?_
      by_cases c_g : (x1 < 0 ∨ 24 ≤ x1.toNatClampNeg)
      · exact absurd ((if_pos c_g).symm.trans hf) (fun z => by cases z)
      have hf := (if_neg c_g).symm.trans hf
      refine rb_iald (f := (A 17)) C (Or.inl (hM.2.1 17 rfl)) (rb_nN c_g) dX4_worth_55 ?_
      refine rb_bipush (v := 126) C dX4_worth_56 rfl ?_
      refine rb_icmp_ne (tgt := 74) C dX4_worth_58 (by decide) (fun c_6 => ?_) (fun c_6 => ?_)
      · have hf := (if_neg c_6).symm.trans hf
        refine rb_aload_n C dX4_worth_74 rfl 1 rfl ?_
        refine rb_get (v := .ref (a 17)) C fl_X4_33_X4 (Or.inl hM.1) rfl dX4_worth_75 ?_
        refine rb_iload_n C dX4_worth_78 rfl 2 rfl ?_
        by_cases c_g : (x1 < 0 ∨ 24 ≤ x1.toNatClampNeg)
        · exact absurd ((if_pos c_g).symm.trans hf) (fun z => by cases z)
        have hf := (if_neg c_g).symm.trans hf
        refine rb_iald (f := (A 17)) C (Or.inl (hM.2.1 17 rfl)) (rb_nN c_g) dX4_worth_79 ?_
        refine rb_bipush (v := 40) C dX4_worth_80 rfl ?_
        refine rb_icmp_ne (tgt := 98) C dX4_worth_82 (by decide) (fun c_7 => ?_) (fun c_7 => ?_)
        · have hf := (if_neg c_7).symm.trans hf
          refine rb_aload_n C dX4_worth_98 rfl 1 rfl ?_
          refine rb_aload_n C dX4_worth_99 rfl 1 rfl ?_
          refine rb_get (v := .ref (a 17)) C fl_X4_33_X4 (Or.inl hM.1) rfl dX4_worth_100 ?_
          refine rb_iload_n C dX4_worth_103 rfl 2 rfl ?_
          by_cases c_g : (x1 < 0 ∨ 24 ≤ x1.toNatClampNeg)
          · exact absurd ((if_pos c_g).symm.trans hf) (fun z => by cases z)
          have hf := (if_neg c_g).symm.trans hf
          refine rb_iald (f := (A 17)) C (Or.inl (hM.2.1 17 rfl)) (rb_nN c_g) dX4_worth_104 ?_
          obtain ⟨v_10, e_9, hf⟩ := rb_bd hf
          refine rb_zVR C mi_X4_operandValue sv_X4_179 (IsC.of (Or.inl hM.1) ck_X4) (ct_X4_operandValue Ev h n o a S A ((A 17) x1.toNatClampNeg) _ hM e_9) (rest := []) rfl rfl (Nat.le_of_ble_eq_true rfl) ⟨by show _ + 1 ≤ 6 + (d + 1); omega, by show _ ≤ 200 + 60 * (d + 1); omega⟩ ⟨Nat.zero_le _, Nat.zero_le _⟩ dX4_worth_105 (fun hn_11 => ?_)
          cases hf
          exact rb_iret C rfl rfl (Nat.zero_le _) (Nat.zero_le _) dX4_worth_108 ⟨rfl, rfl, rfl, rfl⟩
        · have hf := (if_pos c_7).symm.trans hf
          refine rb_aload_n C dX4_worth_85 rfl 1 rfl ?_
          refine rb_iload_n C dX4_worth_86 rfl 2 rfl ?_
          refine rb_iconst (v := 1) C dX4_worth_87 rfl ?_
          refine rb_iadd C dX4_worth_88 ?_
          refine rb_iload_n C dX4_worth_89 rfl 3 rfl ?_
          refine rb_iconst (v := 1) C dX4_worth_90 rfl ?_
          refine rb_isub C dX4_worth_91 ?_
          obtain ⟨v_14, e_13, hf⟩ := rb_bd hf
          refine rb_zVR C mi_X4_worth sv_X4_176 (IsC.of (Or.inl hM.1) ck_X4) (ih h S A (x1 + 1) (x2 - 1) _ hM e_13) (rest := []) rfl rfl (Nat.le_of_ble_eq_true rfl) ⟨by show _ + 1 ≤ 6 + (d + 1); omega, by show _ ≤ 200 + 60 * (d + 1); omega⟩ ⟨Nat.zero_le _, Nat.zero_le _⟩ dX4_worth_92 (fun hn_15 => ?_)
          refine rb_goto (tgt := 108) C dX4_worth_95 (by decide) ?_
          cases hf
          exact rb_iret C rfl rfl (Nat.zero_le _) (Nat.zero_le _) dX4_worth_108 ⟨rfl, rfl, rfl, rfl⟩
      · have hf := (if_pos c_6).symm.trans hf
        refine rb_sipush (v := 999) C dX4_worth_61 rfl ?_
        refine rb_aload_n C dX4_worth_64 rfl 1 rfl ?_
        refine rb_iload_n C dX4_worth_65 rfl 2 rfl ?_
        refine rb_iconst (v := 1) C dX4_worth_66 rfl ?_
        refine rb_iadd C dX4_worth_67 ?_
        refine rb_iload_n C dX4_worth_68 rfl 3 rfl ?_
        obtain ⟨v_18, e_17, hf⟩ := rb_bd hf
        refine rb_zVR C mi_X4_worth sv_X4_176 (IsC.of (Or.inl hM.1) ck_X4) (ih h S A (x1 + 1) x2 _ hM e_17) (rest := [.int 999]) rfl rfl (Nat.le_of_ble_eq_true rfl) ⟨by show _ + 1 ≤ 6 + (d + 1); omega, by show _ ≤ 200 + 60 * (d + 1); omega⟩ ⟨Nat.zero_le _, Nat.zero_le _⟩ dX4_worth_69 (fun hn_19 => ?_)
        refine rb_isub C dX4_worth_72 ?_
        cases hf
        exact rb_iret C rfl rfl (Nat.zero_le _) (Nat.zero_le _) dX4_worth_73 ⟨rfl, rfl, rfl, rfl⟩
    · have hf := (if_neg c_5).symm.trans hf
      refine rb_aload_n C dX4_worth_11 rfl 1 rfl ?_
      refine rb_iload_n C dX4_worth_12 rfl 2 rfl ?_
      refine rb_iload_n C dX4_worth_13 rfl 0 rfl ?_
      obtain ⟨v_22, e_21, hf⟩ := rb_bd hf
      refine rb_zVR C mi_X4_worth sv_X4_176 (IsC.of (Or.inl hM.1) ck_X4) (ih h S A x1 v_3 _ hM e_21) (rest := []) rfl rfl (Nat.le_of_ble_eq_true rfl) ⟨by show _ + 1 ≤ 6 + (d + 1); omega, by show _ ≤ 200 + 60 * (d + 1); omega⟩ ⟨Nat.zero_le _, Nat.zero_le _⟩ dX4_worth_14 (fun hn_23 => ?_)
      refine rb_istore (lv' := [(4, .int v_22), (3, .int v_3), (0, .ref o), (1, .int x1), (2, .int x2)]) C dX4_worth_17 (by decide) rfl ?_
      refine rb_aload_n C dX4_worth_19 rfl 2 rfl ?_
      refine rb_get (v := .ref (a 0)) C fl_X4_7_X4 (Or.inl hM.1) rfl dX4_worth_20 ?_
      refine rb_bipush (v := 32) C dX4_worth_23 rfl ?_
      refine rb_aload_n C dX4_worth_25 rfl 2 rfl ?_
      refine rb_get (v := .ref (a 17)) C fl_X4_33_X4 (Or.inl hM.1) rfl dX4_worth_26 ?_
      refine rb_iload_n C dX4_worth_29 rfl 1 rfl ?_
      by_cases c_g : (v_3 < 0 ∨ 24 ≤ v_3.toNatClampNeg)
      · exact absurd ((if_pos c_g).symm.trans hf) (fun z => by cases z)
      have hf := (if_neg c_g).symm.trans hf
      refine rb_iald (f := (A 17)) C (Or.inl (hM.2.1 17 rfl)) (rb_nN c_g) dX4_worth_30 ?_
      refine rb_zSR C mi_X4_signOf ss_X4_99 (ct_X4_signOf Ev h n ((A 17) v_3.toNatClampNeg) _ rfl) (rest := [.int 32, .ref (a 0)]) rfl rfl (Nat.le_of_ble_eq_true rfl) ⟨by show _ + 1 ≤ 6 + (d + 1); omega, by show _ ≤ 200 + 60 * (d + 1); omega⟩ ⟨Nat.zero_le _, Nat.zero_le _⟩ dX4_worth_31 (fun hn_24 => ?_)
      refine rb_iadd C dX4_worth_34 ?_
      by_cases c_g : ((32 + (f_X4_signOf ((A 17) v_3.toNatClampNeg))) < 0 ∨ 44 ≤ (32 + (f_X4_signOf ((A 17) v_3.toNatClampNeg))).toNatClampNeg)
      · exact absurd ((if_pos c_g).symm.trans hf) (fun z => by cases z)
      have hf := (if_neg c_g).symm.trans hf
      refine rb_iald (f := (A 0)) C (Or.inl (hM.2.1 0 rfl)) (rb_nN c_g) dX4_worth_35 ?_
      refine rb_iload C dX4_worth_36 0 rfl ?_
      refine rb_aload_n C dX4_worth_38 rfl 2 rfl ?_
      refine rb_iload_n C dX4_worth_39 rfl 1 rfl ?_
      refine rb_iconst (v := 1) C dX4_worth_40 rfl ?_
      refine rb_iadd C dX4_worth_41 ?_
      refine rb_iload_n C dX4_worth_42 rfl 4 rfl ?_
      obtain ⟨v_27, e_26, hf⟩ := rb_bd hf
      refine rb_zVR C mi_X4_worth sv_X4_176 (IsC.of (Or.inl hM.1) ck_X4) (ih h S A (v_3 + 1) x2 _ hM e_26) (rest := [.int v_22, .int ((A 0) (32 + (f_X4_signOf ((A 17) v_3.toNatClampNeg))).toNatClampNeg)]) rfl rfl (Nat.le_of_ble_eq_true rfl) ⟨by show _ + 1 ≤ 6 + (d + 1); omega, by show _ ≤ 200 + 60 * (d + 1); omega⟩ ⟨Nat.zero_le _, Nat.zero_le _⟩ dX4_worth_43 (fun hn_28 => ?_)
      refine rb_zSR C mi_X4_makes ss_X4_158 (ct_X4_makes Ev h n ((A 0) (32 + (f_X4_signOf ((A 17) v_3.toNatClampNeg))).toNatClampNeg) v_22 v_27 _ rfl) (rest := []) rfl rfl (Nat.le_of_ble_eq_true rfl) ⟨by show _ + 1 ≤ 6 + (d + 1); omega, by show _ ≤ 200 + 60 * (d + 1); omega⟩ ⟨Nat.zero_le _, Nat.zero_le _⟩ dX4_worth_46 (fun hn_29 => ?_)
      cases hf
      exact rb_iret C rfl rfl (Nat.zero_le _) (Nat.zero_le _) dX4_worth_49 ⟨rfl, rfl, rfl, rfl⟩
def f_X4_worthAll (S : Nat → Int32) (A : Nat → Nat → Int32) : Option (Int32 × (Nat → Int32) × (Nat → Nat → Int32)) := ((f_X4_isDraft S A ).bind fun (v_6, S_3, A_4) => (if v_6 = 0 then (some (0, S_3, A_4)) else ((f_X4_worth 30 S_3 A_4 0 (S_3 19)).bind fun v_11 => (some (v_11, S_3, A_4)))))
abbrev rm_X4_worthAll : Room := { frames := 37, cells := 0, slots := 0, locals := 2024 }
set_option maxHeartbeats 4000000 in
theorem ct_X4_worthAll (Ev : rb_E) (h : AH) (n : Nat) (o : Nat) (a : Nat → Nat) (S : Nat → Int32) (A : Nat → Nat → Int32)  (rv : Int32) (rS : Nat → Int32) (rA : Nat → Nat → Int32) (hM : MD Ev h o a S A) (hf : f_X4_worthAll S A = some (rv, rS, rA)) : Ct Ev yX4_worthAll (ws_ yX4_worthAll cX4_worthAll 1 (some .int)) rm_X4_worthAll [.ref o] h n (pM Ev .int o a h n rv rS rA) := by
  refine Ct.of rfl (Nat.le_of_ble_eq_true rfl) fun X C hnm => ?_
  have C : Cx Ev X RX4 cX4_worthAll 1 (some .int) [] := C
  show Wa Ev X rm_X4_worthAll 1 h n 0 0 (rb_MQ Ev X rm_X4_worthAll (pM Ev .int o a h n rv rS rA)) 0 [(0, .ref o)] []
  have hF : mdFr h h o a := mdFr.rf
  rw [f_X4_worthAll] at hf
  refine rb_aload_n C dX4_worthAll_0 rfl 0 rfl ?_
  obtain ⟨⟨v_6, S_3, A_4⟩, e_2, hf⟩ := rb_bd hf
  refine rb_zVM C mi_X4_isDraft sv_X4_185 (IsC.of (Or.inl hM.1) ck_X4) (ct_X4_isDraft Ev h n o a S A  _ _ _ hM e_2) (rest := []) rfl rfl (Nat.le_of_ble_eq_true rfl) ⟨Nat.le_of_ble_eq_true rfl, Nat.le_of_ble_eq_true rfl⟩ ⟨Nat.zero_le _, Nat.zero_le _⟩ dX4_worthAll_1 (fun h_5 hM hF1 hn_7 => ?_)
  have hF := hF.tr hF1
  refine rb_if_eq (tgt := 19) C dX4_worthAll_4 (by decide) (fun c_8 => ?_) (fun c_8 => ?_)
  · have hf := (if_pos c_8).symm.trans hf
    refine rb_iconst (v := 0) C dX4_worthAll_19 rfl ?_
    cases hf
    exact rb_iret C rfl rfl (Nat.zero_le _) (Nat.zero_le _) dX4_worthAll_20 ⟨rfl, rfl, hM, hF, rfl⟩
  · have hf := (if_neg c_8).symm.trans hf
    refine rb_aload_n C dX4_worthAll_7 rfl 0 rfl ?_
    refine rb_iconst (v := 0) C dX4_worthAll_8 rfl ?_
    refine rb_aload_n C dX4_worthAll_9 rfl 0 rfl ?_
    refine rb_get (v := .int (S_3 19)) C fl_X4_161_X4 (Or.inl hM.1) rfl dX4_worthAll_10 ?_
    obtain ⟨v_11, e_10, hf⟩ := rb_bd hf
    refine rb_zVR C mi_X4_worth sv_X4_176 (IsC.of (Or.inl hM.1) ck_X4) (ct_X4_worth Ev h_5 n 30 o a S_3 A_4 0 (S_3 19) _ hM e_10) (rest := []) rfl rfl (Nat.le_of_ble_eq_true rfl) ⟨Nat.le_of_ble_eq_true rfl, Nat.le_of_ble_eq_true rfl⟩ ⟨Nat.zero_le _, Nat.zero_le _⟩ dX4_worthAll_13 (fun hn_12 => ?_)
    refine rb_goto (tgt := 20) C dX4_worthAll_16 (by decide) ?_
    cases hf
    exact rb_iret C rfl rfl (Nat.zero_le _) (Nat.zero_le _) dX4_worthAll_20 ⟨rfl, rfl, hM, hF, rfl⟩
def f_X4_value (S : Nat → Int32) (A : Nat → Nat → Int32) : Option (Int32 × (Nat → Int32) × (Nat → Nat → Int32)) := ((f_X4_worthAll S A ).bind fun (v_6, S_3, A_4) => (some (v_6, S_3, A_4)))
abbrev rm_X4_value : Room := { frames := 38, cells := 0, slots := 0, locals := 2044 }
set_option maxHeartbeats 4000000 in
theorem ct_X4_value (Ev : rb_E) (h : AH) (n : Nat) (o : Nat) (a : Nat → Nat) (S : Nat → Int32) (A : Nat → Nat → Int32)  (rv : Int32) (rS : Nat → Int32) (rA : Nat → Nat → Int32) (hM : MD Ev h o a S A) (hf : f_X4_value S A = some (rv, rS, rA)) : Ct Ev yX4_value (ws_ yX4_value cX4_value 1 (some .int)) rm_X4_value [.ref o] h n (pM Ev .int o a h n rv rS rA) := by
  refine Ct.of rfl (Nat.le_of_ble_eq_true rfl) fun X C hnm => ?_
  have C : Cx Ev X RX4 cX4_value 1 (some .int) [] := C
  show Wa Ev X rm_X4_value 1 h n 0 0 (rb_MQ Ev X rm_X4_value (pM Ev .int o a h n rv rS rA)) 0 [(0, .ref o)] []
  have hF : mdFr h h o a := mdFr.rf
  rw [f_X4_value] at hf
  refine rb_aload_n C dX4_value_0 rfl 0 rfl ?_
  obtain ⟨⟨v_6, S_3, A_4⟩, e_2, hf⟩ := rb_bd hf
  refine rb_zVM C mi_X4_worthAll sv_X4_189 (IsC.of (Or.inl hM.1) ck_X4) (ct_X4_worthAll Ev h n o a S A  _ _ _ hM e_2) (rest := []) rfl rfl (Nat.le_of_ble_eq_true rfl) ⟨Nat.le_of_ble_eq_true rfl, Nat.le_of_ble_eq_true rfl⟩ ⟨Nat.zero_le _, Nat.zero_le _⟩ dX4_value_1 (fun h_5 hM hF1 hn_7 => ?_)
  have hF := hF.tr hF1
  cases hf
  exact rb_iret C rfl rfl (Nat.zero_le _) (Nat.zero_le _) dX4_value_4 ⟨rfl, rfl, hM, hF, rfl⟩
def f_X4_valueByRows (S : Nat → Int32) (A : Nat → Nat → Int32) : Option (Int32 × (Nat → Int32) × (Nat → Nat → Int32)) := ((f_X4_worthAll S A ).bind fun (v_6, S_3, A_4) => (some (v_6, S_3, A_4)))
abbrev rm_X4_valueByRows : Room := { frames := 38, cells := 0, slots := 0, locals := 2044 }
set_option maxHeartbeats 4000000 in
theorem ct_X4_valueByRows (Ev : rb_E) (h : AH) (n : Nat) (o : Nat) (a : Nat → Nat) (S : Nat → Int32) (A : Nat → Nat → Int32)  (rv : Int32) (rS : Nat → Int32) (rA : Nat → Nat → Int32) (hM : MD Ev h o a S A) (hf : f_X4_valueByRows S A = some (rv, rS, rA)) : Ct Ev yX4_valueByRows (ws_ yX4_valueByRows cX4_valueByRows 1 (some .int)) rm_X4_valueByRows [.ref o] h n (pM Ev .int o a h n rv rS rA) := by
  refine Ct.of rfl (Nat.le_of_ble_eq_true rfl) fun X C hnm => ?_
  have C : Cx Ev X RX4 cX4_valueByRows 1 (some .int) [] := C
  show Wa Ev X rm_X4_valueByRows 1 h n 0 0 (rb_MQ Ev X rm_X4_valueByRows (pM Ev .int o a h n rv rS rA)) 0 [(0, .ref o)] []
  have hF : mdFr h h o a := mdFr.rf
  rw [f_X4_valueByRows] at hf
  refine rb_aload_n C dX4_valueByRows_0 rfl 0 rfl ?_
  obtain ⟨⟨v_6, S_3, A_4⟩, e_2, hf⟩ := rb_bd hf
  refine rb_zVM C mi_X4_worthAll sv_X4_189 (IsC.of (Or.inl hM.1) ck_X4) (ct_X4_worthAll Ev h n o a S A  _ _ _ hM e_2) (rest := []) rfl rfl (Nat.le_of_ble_eq_true rfl) ⟨Nat.le_of_ble_eq_true rfl, Nat.le_of_ble_eq_true rfl⟩ ⟨Nat.zero_le _, Nat.zero_le _⟩ dX4_valueByRows_1 (fun h_5 hM hF1 hn_7 => ?_)
  have hF := hF.tr hF1
  cases hf
  exact rb_iret C rfl rfl (Nat.zero_le _) (Nat.zero_le _) dX4_valueByRows_4 ⟨rfl, rfl, hM, hF, rfl⟩
def f_X4_lastApplied_j73_16 (S_3 : Nat → Int32) (A_4 : Nat → Nat → Int32) (y1_l16_9 : Int32) (v_13 : Int32) (w0_j73_16 : Int32) : Option (Int32 × (Nat → Int32) × (Nat → Nat → Int32)) := ((f_X4_fails S_3 A_4 w0_j73_16).bind fun (v_22, S_19, A_20) => (if v_22 = 0 then (if 0 ≤ v_13 then (some (v_13, S_19, A_20)) else (some (y1_l16_9, S_19, A_20))) else (some (0, S_19, A_20))))
def f_X4_lastApplied_j73_37 (S_3 : Nat → Int32) (A_4 : Nat → Nat → Int32) (y1_l16_9 : Int32) (v_34 : Int32) (w0_j73_37 : Int32) : Option (Int32 × (Nat → Int32) × (Nat → Nat → Int32)) := ((f_X4_fails S_3 A_4 w0_j73_37).bind fun (v_43, S_40, A_41) => (if v_43 = 0 then (if 0 ≤ v_34 then (some (v_34, S_40, A_41)) else (some (y1_l16_9, S_40, A_41))) else (some (0, S_40, A_41))))
def f_X4_lastApplied_l16_9 (S_3 : Nat → Int32) (A_4 : Nat → Nat → Int32) : Nat → Int32 → Int32 → Option (Int32 × (Nat → Int32) × (Nat → Nat → Int32))
  | 0, _, _ => none
  | k_l16_9 + 1, y1_l16_9, y2_l16_9 => if (y1_l16_9 < 0 ∨ 24 ≤ y1_l16_9.toNatClampNeg) then none else (if ((A_4 17) y1_l16_9.toNatClampNeg) = 40 then ((f_X4_split S_3 A_4 y1_l16_9 y2_l16_9).bind fun v_29 => (if 0 ≤ v_29 then ((f_X4_split S_3 A_4 y1_l16_9 y2_l16_9).bind fun v_34 => (if 0 ≤ v_34 then (f_X4_lastApplied_j73_37 S_3 A_4 y1_l16_9 v_34 0) else if (y1_l16_9 < 0 ∨ 24 ≤ y1_l16_9.toNatClampNeg) then none else (if ((A_4 17) y1_l16_9.toNatClampNeg) = 126 then (f_X4_lastApplied_j73_37 S_3 A_4 y1_l16_9 v_34 0) else (f_X4_lastApplied_j73_37 S_3 A_4 y1_l16_9 v_34 2)))) else ((f_X4_lastApplied_l16_9 S_3 A_4 k_l16_9) (y1_l16_9 + 1) (y2_l16_9 + (-1))))) else ((f_X4_split S_3 A_4 y1_l16_9 y2_l16_9).bind fun v_13 => (if 0 ≤ v_13 then (f_X4_lastApplied_j73_16 S_3 A_4 y1_l16_9 v_13 0) else if (y1_l16_9 < 0 ∨ 24 ≤ y1_l16_9.toNatClampNeg) then none else (if ((A_4 17) y1_l16_9.toNatClampNeg) = 126 then (f_X4_lastApplied_j73_16 S_3 A_4 y1_l16_9 v_13 0) else (f_X4_lastApplied_j73_16 S_3 A_4 y1_l16_9 v_13 2)))))
def f_X4_lastApplied (S : Nat → Int32) (A : Nat → Nat → Int32) : Option (Int32 × (Nat → Int32) × (Nat → Nat → Int32)) := ((f_X4_isDraft S A ).bind fun (v_6, S_3, A_4) => (if v_6 = 0 then (some (0, S_3, A_4)) else (f_X4_lastApplied_l16_9 S_3 A_4 4096 0 (S_3 19))))
abbrev rm_X4_lastApplied : Room := { frames := 5, cells := 0, slots := 0, locals := 109 }
set_option maxHeartbeats 4000000 in
theorem ct_X4_lastApplied (Ev : rb_E) (h : AH) (n : Nat) (o : Nat) (a : Nat → Nat) (S : Nat → Int32) (A : Nat → Nat → Int32)  (rv : Int32) (rS : Nat → Int32) (rA : Nat → Nat → Int32) (hM : MD Ev h o a S A) (hf : f_X4_lastApplied S A = some (rv, rS, rA)) : Ct Ev yX4_lastApplied (ws_ yX4_lastApplied cX4_lastApplied 4 (some .int)) rm_X4_lastApplied [.ref o] h n (pM Ev .int o a h n rv rS rA) := by
  refine Ct.of rfl (Nat.le_of_ble_eq_true rfl) fun X C hnm => ?_
  have C : Cx Ev X RX4 cX4_lastApplied 4 (some .int) [] := C
  show Wa Ev X rm_X4_lastApplied 4 h n 0 0 (rb_MQ Ev X rm_X4_lastApplied (pM Ev .int o a h n rv rS rA)) 0 [(0, .ref o)] []
  have hF : mdFr h h o a := mdFr.rf
  rw [f_X4_lastApplied] at hf
  refine rb_aload_n C dX4_lastApplied_0 rfl 0 rfl ?_
  obtain ⟨⟨v_6, S_3, A_4⟩, e_2, hf⟩ := rb_bd hf
  refine rb_zVM C mi_X4_isDraft sv_X4_185 (IsC.of (Or.inl hM.1) ck_X4) (ct_X4_isDraft Ev h n o a S A  _ _ _ hM e_2) (rest := []) rfl rfl (Nat.le_of_ble_eq_true rfl) ⟨Nat.le_of_ble_eq_true rfl, Nat.le_of_ble_eq_true rfl⟩ ⟨Nat.zero_le _, Nat.zero_le _⟩ dX4_lastApplied_1 (fun h_5 hM hF1 hn_7 => ?_)
  have hF := hF.tr hF1
  refine rb_if_ne (tgt := 9) C dX4_lastApplied_4 (by decide) (fun c_8 => ?_) (fun c_8 => ?_)
  · have hf := (if_neg c_8).symm.trans hf
    refine rb_iconst (v := 0) C dX4_lastApplied_9 rfl ?_
    refine rb_istore_n (lv' := [(1, .int 0), (0, .ref o)]) C dX4_lastApplied_10 rfl (by decide) rfl ?_
    refine rb_aload_n C dX4_lastApplied_11 rfl 1 rfl ?_
    refine rb_get (v := .int (S_3 19)) C fl_X4_161_X4 (Or.inl hM.1) rfl dX4_lastApplied_12 ?_
    refine rb_istore_n (lv' := [(2, .int (S_3 19)), (1, .int 0), (0, .ref o)]) C dX4_lastApplied_15 rfl (by decide) rfl ?_
    have L_l16_9 : ∀ (k_l16_9 : Nat) (y1_l16_9 : Int32) (y2_l16_9 : Int32), f_X4_lastApplied_l16_9 S_3 A_4 k_l16_9 y1_l16_9 y2_l16_9 = some (rv, rS, rA) → Wa Ev X rm_X4_lastApplied 4 h_5 n 0 0 (rb_MQ Ev X rm_X4_lastApplied (pM Ev .int o a h n rv rS rA)) 16 [(0, .ref o), (1, .int y1_l16_9), (2, .int y2_l16_9)] [] := by
      intro k_l16_9
      induction k_l16_9 with
      | zero => intro y1_l16_9 y2_l16_9 hf; cases hf
      | succ k_l16_9 ih_l16_9 =>
        intro y1_l16_9 y2_l16_9 hf
        rw [f_X4_lastApplied_l16_9] at hf
        refine rb_aload_n C dX4_lastApplied_16 rfl 0 rfl ?_
        refine rb_get (v := .ref (a 17)) C fl_X4_33_X4 (Or.inl hM.1) rfl dX4_lastApplied_17 ?_
        refine rb_iload_n C dX4_lastApplied_20 rfl 1 rfl ?_
        by_cases c_g : (y1_l16_9 < 0 ∨ 24 ≤ y1_l16_9.toNatClampNeg)
        · exact absurd ((if_pos c_g).symm.trans hf) (fun z => by cases z)
        have hf := (if_neg c_g).symm.trans hf
        refine rb_iald (f := (A_4 17)) C (Or.inl (hM.2.1 17 rfl)) (rb_nN c_g) dX4_lastApplied_21 ?_
        refine rb_bipush (v := 40) C dX4_lastApplied_22 rfl ?_
        refine rb_icmp_ne (tgt := 45) C dX4_lastApplied_24 (by decide) (fun c_10 => ?_) (fun c_10 => ?_)
        · have hf := (if_neg c_10).symm.trans hf
          refine rb_aload_n C dX4_lastApplied_45 rfl 0 rfl ?_
          refine rb_iload_n C dX4_lastApplied_46 rfl 1 rfl ?_
          refine rb_iload_n C dX4_lastApplied_47 rfl 2 rfl ?_
          obtain ⟨v_13, e_12, hf⟩ := rb_bd hf
          refine rb_zVR C mi_X4_split sv_X4_173 (IsC.of (Or.inl hM.1) ck_X4) (ct_X4_split Ev h_5 n o a S_3 A_4 y1_l16_9 y2_l16_9 _ hM e_12) (rest := []) rfl rfl (Nat.le_of_ble_eq_true rfl) ⟨Nat.le_of_ble_eq_true rfl, Nat.le_of_ble_eq_true rfl⟩ ⟨Nat.zero_le _, Nat.zero_le _⟩ dX4_lastApplied_48 (fun hn_14 => ?_)
          refine rb_istore_n (lv' := [(3, .int v_13), (0, .ref o), (1, .int y1_l16_9), (2, .int y2_l16_9)]) C dX4_lastApplied_51 rfl (by decide) rfl ?_
          refine rb_aload_n C dX4_lastApplied_52 rfl 1 rfl ?_
          refine rb_iload_n C dX4_lastApplied_53 rfl 0 rfl ?_
          have J_j73_16 : ∀ (w0_j73_16 : Int32), f_X4_lastApplied_j73_16 S_3 A_4 y1_l16_9 v_13 w0_j73_16 = some (rv, rS, rA) → Wa Ev X rm_X4_lastApplied 4 h_5 n 0 0 (rb_MQ Ev X rm_X4_lastApplied (pM Ev .int o a h n rv rS rA)) 73 [(0, .ref o), (1, .int y1_l16_9), (2, .int y2_l16_9), (3, .int v_13)] [.int w0_j73_16, .ref o] := by
            intro w0_j73_16 hf
            rw [f_X4_lastApplied_j73_16] at hf
            obtain ⟨⟨v_22, S_19, A_20⟩, e_18, hf⟩ := rb_bd hf
            refine rb_zVM C mi_X4_fails sv_X4_123 (IsC.of (Or.inl hM.1) ck_X4) (ct_X4_fails Ev h_5 n o a S_3 A_4 w0_j73_16 _ _ _ hM e_18) (rest := []) rfl rfl (Nat.le_of_ble_eq_true rfl) ⟨Nat.le_of_ble_eq_true rfl, Nat.le_of_ble_eq_true rfl⟩ ⟨Nat.zero_le _, Nat.zero_le _⟩ dX4_lastApplied_73 (fun h_21 hM hF1 hn_23 => ?_)
            have hF := hF.tr hF1
            refine rb_if_eq (tgt := 81) C dX4_lastApplied_76 (by decide) (fun c_24 => ?_) (fun c_24 => ?_)
            · have hf := (if_pos c_24).symm.trans hf
              refine rb_iload_n C dX4_lastApplied_81 rfl 3 rfl ?_
              refine rb_if_ge (tgt := 89) C dX4_lastApplied_82 (by decide) (fun c_25 => ?_) (fun c_25 => ?_)
              · have hf := (if_pos c_25).symm.trans hf
                refine rb_iload_n C dX4_lastApplied_89 rfl 3 rfl ?_
                cases hf
                exact rb_iret C rfl rfl (Nat.zero_le _) (Nat.zero_le _) dX4_lastApplied_90 ⟨rfl, rfl, hM, hF, rfl⟩
              · have hf := (if_neg c_25).symm.trans hf
                refine rb_iload_n C dX4_lastApplied_85 rfl 1 rfl ?_
                refine rb_goto (tgt := 90) C dX4_lastApplied_86 (by decide) ?_
                cases hf
                exact rb_iret C rfl rfl (Nat.zero_le _) (Nat.zero_le _) dX4_lastApplied_90 ⟨rfl, rfl, hM, hF, rfl⟩
            · have hf := (if_neg c_24).symm.trans hf
              refine rb_iconst (v := 0) C dX4_lastApplied_79 rfl ?_
              cases hf
              exact rb_iret C rfl rfl (Nat.zero_le _) (Nat.zero_le _) dX4_lastApplied_80 ⟨rfl, rfl, hM, hF, rfl⟩
          refine rb_if_ge (tgt := 72) C dX4_lastApplied_54 (by decide) (fun c_15 => ?_) (fun c_15 => ?_)
          · have hf := (if_pos c_15).symm.trans hf
            refine rb_iconst (v := 0) C dX4_lastApplied_72 rfl ?_
            refine rb_sub [1, 2, 3, 0] rfl ?_
            exact J_j73_16 0 hf
          · have hf := (if_neg c_15).symm.trans hf
            refine rb_aload_n C dX4_lastApplied_57 rfl 1 rfl ?_
            refine rb_get (v := .ref (a 17)) C fl_X4_33_X4 (Or.inl hM.1) rfl dX4_lastApplied_58 ?_
            refine rb_iload_n C dX4_lastApplied_61 rfl 2 rfl ?_
            by_cases c_g : (y1_l16_9 < 0 ∨ 24 ≤ y1_l16_9.toNatClampNeg)
            · exact absurd ((if_pos c_g).symm.trans hf) (fun z => by cases z)
            have hf := (if_neg c_g).symm.trans hf
            refine rb_iald (f := (A_4 17)) C (Or.inl (hM.2.1 17 rfl)) (rb_nN c_g) dX4_lastApplied_62 ?_
            refine rb_bipush (v := 126) C dX4_lastApplied_63 rfl ?_
            refine rb_icmp_eq (tgt := 72) C dX4_lastApplied_65 (by decide) (fun c_26 => ?_) (fun c_26 => ?_)
            · have hf := (if_pos c_26).symm.trans hf
              refine rb_iconst (v := 0) C dX4_lastApplied_72 rfl ?_
              refine rb_sub [1, 2, 3, 0] rfl ?_
              exact J_j73_16 0 hf
            · have hf := (if_neg c_26).symm.trans hf
              refine rb_iconst (v := 2) C dX4_lastApplied_68 rfl ?_
              refine rb_goto (tgt := 73) C dX4_lastApplied_69 (by decide) ?_
              refine rb_sub [1, 2, 3, 0] rfl ?_
              exact J_j73_16 2 hf
        · have hf := (if_pos c_10).symm.trans hf
          refine rb_aload_n C dX4_lastApplied_27 rfl 0 rfl ?_
          refine rb_iload_n C dX4_lastApplied_28 rfl 1 rfl ?_
          refine rb_iload_n C dX4_lastApplied_29 rfl 2 rfl ?_
          obtain ⟨v_29, e_28, hf⟩ := rb_bd hf
          refine rb_zVR C mi_X4_split sv_X4_173 (IsC.of (Or.inl hM.1) ck_X4) (ct_X4_split Ev h_5 n o a S_3 A_4 y1_l16_9 y2_l16_9 _ hM e_28) (rest := []) rfl rfl (Nat.le_of_ble_eq_true rfl) ⟨Nat.le_of_ble_eq_true rfl, Nat.le_of_ble_eq_true rfl⟩ ⟨Nat.zero_le _, Nat.zero_le _⟩ dX4_lastApplied_30 (fun hn_30 => ?_)
          refine rb_if_ge (tgt := 45) C dX4_lastApplied_33 (by decide) (fun c_31 => ?_) (fun c_31 => ?_)
          · have hf := (if_pos c_31).symm.trans hf
            refine rb_aload_n C dX4_lastApplied_45 rfl 0 rfl ?_
            refine rb_iload_n C dX4_lastApplied_46 rfl 1 rfl ?_
            refine rb_iload_n C dX4_lastApplied_47 rfl 2 rfl ?_
            obtain ⟨v_34, e_33, hf⟩ := rb_bd hf
            refine rb_zVR C mi_X4_split sv_X4_173 (IsC.of (Or.inl hM.1) ck_X4) (ct_X4_split Ev h_5 n o a S_3 A_4 y1_l16_9 y2_l16_9 _ hM e_33) (rest := []) rfl rfl (Nat.le_of_ble_eq_true rfl) ⟨Nat.le_of_ble_eq_true rfl, Nat.le_of_ble_eq_true rfl⟩ ⟨Nat.zero_le _, Nat.zero_le _⟩ dX4_lastApplied_48 (fun hn_35 => ?_)
            refine rb_istore_n (lv' := [(3, .int v_34), (0, .ref o), (1, .int y1_l16_9), (2, .int y2_l16_9)]) C dX4_lastApplied_51 rfl (by decide) rfl ?_
            refine rb_aload_n C dX4_lastApplied_52 rfl 1 rfl ?_
            refine rb_iload_n C dX4_lastApplied_53 rfl 0 rfl ?_
            have J_j73_37 : ∀ (w0_j73_37 : Int32), f_X4_lastApplied_j73_37 S_3 A_4 y1_l16_9 v_34 w0_j73_37 = some (rv, rS, rA) → Wa Ev X rm_X4_lastApplied 4 h_5 n 0 0 (rb_MQ Ev X rm_X4_lastApplied (pM Ev .int o a h n rv rS rA)) 73 [(0, .ref o), (1, .int y1_l16_9), (2, .int y2_l16_9), (3, .int v_34)] [.int w0_j73_37, .ref o] := by
              intro w0_j73_37 hf
              rw [f_X4_lastApplied_j73_37] at hf
              obtain ⟨⟨v_43, S_40, A_41⟩, e_39, hf⟩ := rb_bd hf
              refine rb_zVM C mi_X4_fails sv_X4_123 (IsC.of (Or.inl hM.1) ck_X4) (ct_X4_fails Ev h_5 n o a S_3 A_4 w0_j73_37 _ _ _ hM e_39) (rest := []) rfl rfl (Nat.le_of_ble_eq_true rfl) ⟨Nat.le_of_ble_eq_true rfl, Nat.le_of_ble_eq_true rfl⟩ ⟨Nat.zero_le _, Nat.zero_le _⟩ dX4_lastApplied_73 (fun h_42 hM hF1 hn_44 => ?_)
              have hF := hF.tr hF1
              refine rb_if_eq (tgt := 81) C dX4_lastApplied_76 (by decide) (fun c_45 => ?_) (fun c_45 => ?_)
              · have hf := (if_pos c_45).symm.trans hf
                refine rb_iload_n C dX4_lastApplied_81 rfl 3 rfl ?_
                refine rb_if_ge (tgt := 89) C dX4_lastApplied_82 (by decide) (fun c_46 => ?_) (fun c_46 => ?_)
                · have hf := (if_pos c_46).symm.trans hf
                  refine rb_iload_n C dX4_lastApplied_89 rfl 3 rfl ?_
                  cases hf
                  exact rb_iret C rfl rfl (Nat.zero_le _) (Nat.zero_le _) dX4_lastApplied_90 ⟨rfl, rfl, hM, hF, rfl⟩
                · have hf := (if_neg c_46).symm.trans hf
                  refine rb_iload_n C dX4_lastApplied_85 rfl 1 rfl ?_
                  refine rb_goto (tgt := 90) C dX4_lastApplied_86 (by decide) ?_
                  cases hf
                  exact rb_iret C rfl rfl (Nat.zero_le _) (Nat.zero_le _) dX4_lastApplied_90 ⟨rfl, rfl, hM, hF, rfl⟩
              · have hf := (if_neg c_45).symm.trans hf
                refine rb_iconst (v := 0) C dX4_lastApplied_79 rfl ?_
                cases hf
                exact rb_iret C rfl rfl (Nat.zero_le _) (Nat.zero_le _) dX4_lastApplied_80 ⟨rfl, rfl, hM, hF, rfl⟩
            refine rb_if_ge (tgt := 72) C dX4_lastApplied_54 (by decide) (fun c_36 => ?_) (fun c_36 => ?_)
            · have hf := (if_pos c_36).symm.trans hf
              refine rb_iconst (v := 0) C dX4_lastApplied_72 rfl ?_
              refine rb_sub [1, 2, 3, 0] rfl ?_
              exact J_j73_37 0 hf
            · have hf := (if_neg c_36).symm.trans hf
              refine rb_aload_n C dX4_lastApplied_57 rfl 1 rfl ?_
              refine rb_get (v := .ref (a 17)) C fl_X4_33_X4 (Or.inl hM.1) rfl dX4_lastApplied_58 ?_
              refine rb_iload_n C dX4_lastApplied_61 rfl 2 rfl ?_
              by_cases c_g : (y1_l16_9 < 0 ∨ 24 ≤ y1_l16_9.toNatClampNeg)
              · exact absurd ((if_pos c_g).symm.trans hf) (fun z => by cases z)
              have hf := (if_neg c_g).symm.trans hf
              refine rb_iald (f := (A_4 17)) C (Or.inl (hM.2.1 17 rfl)) (rb_nN c_g) dX4_lastApplied_62 ?_
              refine rb_bipush (v := 126) C dX4_lastApplied_63 rfl ?_
              refine rb_icmp_eq (tgt := 72) C dX4_lastApplied_65 (by decide) (fun c_47 => ?_) (fun c_47 => ?_)
              · have hf := (if_pos c_47).symm.trans hf
                refine rb_iconst (v := 0) C dX4_lastApplied_72 rfl ?_
                refine rb_sub [1, 2, 3, 0] rfl ?_
                exact J_j73_37 0 hf
              · have hf := (if_neg c_47).symm.trans hf
                refine rb_iconst (v := 2) C dX4_lastApplied_68 rfl ?_
                refine rb_goto (tgt := 73) C dX4_lastApplied_69 (by decide) ?_
                refine rb_sub [1, 2, 3, 0] rfl ?_
                exact J_j73_37 2 hf
          · have hf := (if_neg c_31).symm.trans hf
            refine rb_iinc (v := (y1_l16_9 + 1)) (lv' := [(1, .int (y1_l16_9 + 1)), (0, .ref o), (2, .int y2_l16_9)]) C dX4_lastApplied_36 (k := 1) rfl rfl (by decide) rfl ?_
            refine rb_iinc (v := (y2_l16_9 + (-1))) (lv' := [(2, .int (y2_l16_9 + (-1))), (1, .int (y1_l16_9 + 1)), (0, .ref o)]) C dX4_lastApplied_39 (k := 2) rfl rfl (by decide) rfl ?_
            refine rb_goto (tgt := 16) C dX4_lastApplied_42 (by decide) ?_
            refine rb_sub [2, 1, 0] rfl ?_
            exact ih_l16_9 (y1_l16_9 + 1) (y2_l16_9 + (-1)) hf
    refine rb_sub [2, 1, 0] rfl ?_
    exact L_l16_9 4096 0 (S_3 19) hf
  · have hf := (if_pos c_8).symm.trans hf
    refine rb_iconst (v := 0) C dX4_lastApplied_7 rfl ?_
    cases hf
    exact rb_iret C rfl rfl (Nat.zero_le _) (Nat.zero_le _) dX4_lastApplied_8 ⟨rfl, rfl, hM, hF, rfl⟩
def f_X4_tall : Nat → (Nat → Int32) → (Nat → Nat → Int32) → Int32 → Int32 → Option Int32
  | 0, _, _, _, _ => none
  | d + 1, S, A, x1, x2 => ((f_X4_split S A x1 x2).bind fun v_3 => (if v_3 < 0 then if (x1 < 0 ∨ 24 ≤ x1.toNatClampNeg) then none else (if ((A 17) x1.toNatClampNeg) = 126 then (((f_X4_tall d) S A (x1 + 1) x2).bind fun v_14 => (some (1 + v_14))) else if (x1 < 0 ∨ 24 ≤ x1.toNatClampNeg) then none else (if ((A 17) x1.toNatClampNeg) = 40 then (((f_X4_tall d) S A (x1 + 1) (x2 - 1)).bind fun v_10 => (some v_10)) else (some 0))) else (((f_X4_tall d) S A x1 v_3).bind fun v_18 => (((f_X4_tall d) S A (v_3 + 1) x2).bind fun v_22 => (some (1 + (f_X4_most v_18 v_22)))))))
abbrev rm_X4_tall (d : Nat) : Room := { frames := 6 + d, cells := 0, slots := 0, locals := 200 + 60 * d }
set_option maxHeartbeats 4000000 in
theorem ct_X4_tall (Ev : rb_E) (h : AH) (n : Nat) (d : Nat) (o : Nat) (a : Nat → Nat) (S : Nat → Int32) (A : Nat → Nat → Int32) (x1 : Int32) (x2 : Int32) (rv : Int32) (hM : MD Ev h o a S A) (hf : f_X4_tall d S A x1 x2 = some rv) : Ct Ev yX4_tall (ws_ yX4_tall cX4_tall 5 (some .int)) (rm_X4_tall d) [.ref o, .int x1, .int x2] h n (pR .int rv h n) := by
  induction d generalizing h S A x1 x2 rv with
  | zero => cases hf
  | succ d ih =>
    refine Ct.of rfl (Nat.le_of_ble_eq_true rfl) fun X C hnm => ?_
    have C : Cx Ev X RX4 cX4_tall 5 (some .int) [] := C
    show Wa Ev X (rm_X4_tall (d + 1)) 5 h n 0 0 (rb_MQ Ev X (rm_X4_tall (d + 1)) (pR .int rv h n)) 0 [(0, .ref o), (1, .int x1), (2, .int x2)] []
    have hF : mdFr h h o a := mdFr.rf
    rw [f_X4_tall] at hf
    refine rb_aload_n C dX4_tall_0 rfl 0 rfl ?_
    refine rb_iload_n C dX4_tall_1 rfl 1 rfl ?_
    refine rb_iload_n C dX4_tall_2 rfl 2 rfl ?_
    obtain ⟨v_3, e_2, hf⟩ := rb_bd hf
    refine rb_zVR C mi_X4_split sv_X4_173 (IsC.of (Or.inl hM.1) ck_X4) (ct_X4_split Ev h n o a S A x1 x2 _ hM e_2) (rest := []) rfl rfl (Nat.le_of_ble_eq_true rfl) ⟨by show _ + 1 ≤ 6 + (d + 1); omega, by show _ ≤ 200 + 60 * (d + 1); omega⟩ ⟨Nat.zero_le _, Nat.zero_le _⟩ dX4_tall_3 (fun hn_4 => ?_)
    refine rb_istore_n (lv' := [(3, .int v_3), (0, .ref o), (1, .int x1), (2, .int x2)]) C dX4_tall_6 rfl (by decide) rfl ?_
    refine rb_iload_n C dX4_tall_7 rfl 0 rfl ?_
    refine rb_if_lt (tgt := 35) C dX4_tall_8 (by decide) (fun c_5 => ?_) (fun c_5 => ?_)
    · have hf := (if_pos c_5).symm.trans hf
      refine rb_aload_n C dX4_tall_35 rfl 1 rfl ?_
      refine rb_get (v := .ref (a 17)) C fl_X4_33_X4 (Or.inl hM.1) rfl dX4_tall_36 ?_
      refine rb_iload_n C dX4_tall_39 rfl 2 rfl ?_
      by_cases c_g : (x1 < 0 ∨ 24 ≤ x1.toNatClampNeg)
      · exact absurd ((if_pos c_g).symm.trans hf) (fun z => by cases z)
      have hf := (if_neg c_g).symm.trans hf
      refine rb_iald (f := (A 17)) C (Or.inl (hM.2.1 17 rfl)) (rb_nN c_g) dX4_tall_40 ?_
      refine rb_bipush (v := 126) C dX4_tall_41 rfl ?_
      refine rb_icmp_ne (tgt := 57) C dX4_tall_43 (by decide) (fun c_6 => ?_) (fun c_6 => ?_)
      · have hf := (if_neg c_6).symm.trans hf
        refine rb_aload_n C dX4_tall_57 rfl 1 rfl ?_
        refine rb_get (v := .ref (a 17)) C fl_X4_33_X4 (Or.inl hM.1) rfl dX4_tall_58 ?_
        refine rb_iload_n C dX4_tall_61 rfl 2 rfl ?_
        by_cases c_g : (x1 < 0 ∨ 24 ≤ x1.toNatClampNeg)
        · exact absurd ((if_pos c_g).symm.trans hf) (fun z => by cases z)
        have hf := (if_neg c_g).symm.trans hf
        refine rb_iald (f := (A 17)) C (Or.inl (hM.2.1 17 rfl)) (rb_nN c_g) dX4_tall_62 ?_
        refine rb_bipush (v := 40) C dX4_tall_63 rfl ?_
        refine rb_icmp_ne (tgt := 81) C dX4_tall_65 (by decide) (fun c_7 => ?_) (fun c_7 => ?_)
        · have hf := (if_neg c_7).symm.trans hf
          refine rb_iconst (v := 0) C dX4_tall_81 rfl ?_
          cases hf
          exact rb_iret C rfl rfl (Nat.zero_le _) (Nat.zero_le _) dX4_tall_82 ⟨rfl, rfl, rfl, rfl⟩
        · have hf := (if_pos c_7).symm.trans hf
          refine rb_aload_n C dX4_tall_68 rfl 1 rfl ?_
          refine rb_iload_n C dX4_tall_69 rfl 2 rfl ?_
          refine rb_iconst (v := 1) C dX4_tall_70 rfl ?_
          refine rb_iadd C dX4_tall_71 ?_
          refine rb_iload_n C dX4_tall_72 rfl 3 rfl ?_
          refine rb_iconst (v := 1) C dX4_tall_73 rfl ?_
          refine rb_isub C dX4_tall_74 ?_
          obtain ⟨v_10, e_9, hf⟩ := rb_bd hf
          refine rb_zVR C mi_X4_tall sv_X4_182 (IsC.of (Or.inl hM.1) ck_X4) (ih h S A (x1 + 1) (x2 - 1) _ hM e_9) (rest := []) rfl rfl (Nat.le_of_ble_eq_true rfl) ⟨by show _ + 1 ≤ 6 + (d + 1); omega, by show _ ≤ 200 + 60 * (d + 1); omega⟩ ⟨Nat.zero_le _, Nat.zero_le _⟩ dX4_tall_75 (fun hn_11 => ?_)
          refine rb_goto (tgt := 82) C dX4_tall_78 (by decide) ?_
          cases hf
          exact rb_iret C rfl rfl (Nat.zero_le _) (Nat.zero_le _) dX4_tall_82 ⟨rfl, rfl, rfl, rfl⟩
      · have hf := (if_pos c_6).symm.trans hf
        refine rb_iconst (v := 1) C dX4_tall_46 rfl ?_
        refine rb_aload_n C dX4_tall_47 rfl 1 rfl ?_
        refine rb_iload_n C dX4_tall_48 rfl 2 rfl ?_
        refine rb_iconst (v := 1) C dX4_tall_49 rfl ?_
        refine rb_iadd C dX4_tall_50 ?_
        refine rb_iload_n C dX4_tall_51 rfl 3 rfl ?_
        obtain ⟨v_14, e_13, hf⟩ := rb_bd hf
        refine rb_zVR C mi_X4_tall sv_X4_182 (IsC.of (Or.inl hM.1) ck_X4) (ih h S A (x1 + 1) x2 _ hM e_13) (rest := [.int 1]) rfl rfl (Nat.le_of_ble_eq_true rfl) ⟨by show _ + 1 ≤ 6 + (d + 1); omega, by show _ ≤ 200 + 60 * (d + 1); omega⟩ ⟨Nat.zero_le _, Nat.zero_le _⟩ dX4_tall_52 (fun hn_15 => ?_)
        refine rb_iadd C dX4_tall_55 ?_
        cases hf
        exact rb_iret C rfl rfl (Nat.zero_le _) (Nat.zero_le _) dX4_tall_56 ⟨rfl, rfl, rfl, rfl⟩
    · have hf := (if_neg c_5).symm.trans hf
      refine rb_aload_n C dX4_tall_11 rfl 1 rfl ?_
      refine rb_iload_n C dX4_tall_12 rfl 2 rfl ?_
      refine rb_iload_n C dX4_tall_13 rfl 0 rfl ?_
      obtain ⟨v_18, e_17, hf⟩ := rb_bd hf
      refine rb_zVR C mi_X4_tall sv_X4_182 (IsC.of (Or.inl hM.1) ck_X4) (ih h S A x1 v_3 _ hM e_17) (rest := []) rfl rfl (Nat.le_of_ble_eq_true rfl) ⟨by show _ + 1 ≤ 6 + (d + 1); omega, by show _ ≤ 200 + 60 * (d + 1); omega⟩ ⟨Nat.zero_le _, Nat.zero_le _⟩ dX4_tall_14 (fun hn_19 => ?_)
      refine rb_istore (lv' := [(4, .int v_18), (3, .int v_3), (0, .ref o), (1, .int x1), (2, .int x2)]) C dX4_tall_17 (by decide) rfl ?_
      refine rb_iconst (v := 1) C dX4_tall_19 rfl ?_
      refine rb_iload C dX4_tall_20 0 rfl ?_
      refine rb_aload_n C dX4_tall_22 rfl 2 rfl ?_
      refine rb_iload_n C dX4_tall_23 rfl 1 rfl ?_
      refine rb_iconst (v := 1) C dX4_tall_24 rfl ?_
      refine rb_iadd C dX4_tall_25 ?_
      refine rb_iload_n C dX4_tall_26 rfl 4 rfl ?_
      obtain ⟨v_22, e_21, hf⟩ := rb_bd hf
      refine rb_zVR C mi_X4_tall sv_X4_182 (IsC.of (Or.inl hM.1) ck_X4) (ih h S A (v_3 + 1) x2 _ hM e_21) (rest := [.int v_18, .int 1]) rfl rfl (Nat.le_of_ble_eq_true rfl) ⟨by show _ + 1 ≤ 6 + (d + 1); omega, by show _ ≤ 200 + 60 * (d + 1); omega⟩ ⟨Nat.zero_le _, Nat.zero_le _⟩ dX4_tall_27 (fun hn_23 => ?_)
      refine rb_zSR C mi_X4_most ss_X4_154 (ct_X4_most Ev h n v_18 v_22 _ rfl) (rest := [.int 1]) rfl rfl (Nat.le_of_ble_eq_true rfl) ⟨by show _ + 1 ≤ 6 + (d + 1); omega, by show _ ≤ 200 + 60 * (d + 1); omega⟩ ⟨Nat.zero_le _, Nat.zero_le _⟩ dX4_tall_30 (fun hn_24 => ?_)
      refine rb_iadd C dX4_tall_33 ?_
      cases hf
      exact rb_iret C rfl rfl (Nat.zero_le _) (Nat.zero_le _) dX4_tall_34 ⟨rfl, rfl, rfl, rfl⟩
def f_X4_height (S : Nat → Int32) (A : Nat → Nat → Int32) : Option (Int32 × (Nat → Int32) × (Nat → Nat → Int32)) := ((f_X4_isDraft S A ).bind fun (v_6, S_3, A_4) => (if v_6 = 0 then (some (0, S_3, A_4)) else ((f_X4_tall 30 S_3 A_4 0 (S_3 19)).bind fun v_11 => (some (v_11, S_3, A_4)))))
abbrev rm_X4_height : Room := { frames := 37, cells := 0, slots := 0, locals := 2024 }
set_option maxHeartbeats 4000000 in
theorem ct_X4_height (Ev : rb_E) (h : AH) (n : Nat) (o : Nat) (a : Nat → Nat) (S : Nat → Int32) (A : Nat → Nat → Int32)  (rv : Int32) (rS : Nat → Int32) (rA : Nat → Nat → Int32) (hM : MD Ev h o a S A) (hf : f_X4_height S A = some (rv, rS, rA)) : Ct Ev yX4_height (ws_ yX4_height cX4_height 1 (some .int)) rm_X4_height [.ref o] h n (pM Ev .int o a h n rv rS rA) := by
  refine Ct.of rfl (Nat.le_of_ble_eq_true rfl) fun X C hnm => ?_
  have C : Cx Ev X RX4 cX4_height 1 (some .int) [] := C
  show Wa Ev X rm_X4_height 1 h n 0 0 (rb_MQ Ev X rm_X4_height (pM Ev .int o a h n rv rS rA)) 0 [(0, .ref o)] []
  have hF : mdFr h h o a := mdFr.rf
  rw [f_X4_height] at hf
  refine rb_aload_n C dX4_height_0 rfl 0 rfl ?_
  obtain ⟨⟨v_6, S_3, A_4⟩, e_2, hf⟩ := rb_bd hf
  refine rb_zVM C mi_X4_isDraft sv_X4_185 (IsC.of (Or.inl hM.1) ck_X4) (ct_X4_isDraft Ev h n o a S A  _ _ _ hM e_2) (rest := []) rfl rfl (Nat.le_of_ble_eq_true rfl) ⟨Nat.le_of_ble_eq_true rfl, Nat.le_of_ble_eq_true rfl⟩ ⟨Nat.zero_le _, Nat.zero_le _⟩ dX4_height_1 (fun h_5 hM hF1 hn_7 => ?_)
  have hF := hF.tr hF1
  refine rb_if_eq (tgt := 19) C dX4_height_4 (by decide) (fun c_8 => ?_) (fun c_8 => ?_)
  · have hf := (if_pos c_8).symm.trans hf
    refine rb_iconst (v := 0) C dX4_height_19 rfl ?_
    cases hf
    exact rb_iret C rfl rfl (Nat.zero_le _) (Nat.zero_le _) dX4_height_20 ⟨rfl, rfl, hM, hF, rfl⟩
  · have hf := (if_neg c_8).symm.trans hf
    refine rb_aload_n C dX4_height_7 rfl 0 rfl ?_
    refine rb_iconst (v := 0) C dX4_height_8 rfl ?_
    refine rb_aload_n C dX4_height_9 rfl 0 rfl ?_
    refine rb_get (v := .int (S_3 19)) C fl_X4_161_X4 (Or.inl hM.1) rfl dX4_height_10 ?_
    obtain ⟨v_11, e_10, hf⟩ := rb_bd hf
    refine rb_zVR C mi_X4_tall sv_X4_182 (IsC.of (Or.inl hM.1) ck_X4) (ct_X4_tall Ev h_5 n 30 o a S_3 A_4 0 (S_3 19) _ hM e_10) (rest := []) rfl rfl (Nat.le_of_ble_eq_true rfl) ⟨Nat.le_of_ble_eq_true rfl, Nat.le_of_ble_eq_true rfl⟩ ⟨Nat.zero_le _, Nat.zero_le _⟩ dX4_height_13 (fun hn_12 => ?_)
    refine rb_goto (tgt := 20) C dX4_height_16 (by decide) ?_
    cases hf
    exact rb_iret C rfl rfl (Nat.zero_le _) (Nat.zero_le _) dX4_height_20 ⟨rfl, rfl, hM, hF, rfl⟩
def f_X4_keep_j13_3 (x1 : Int32) (S : Nat → Int32) (A : Nat → Nat → Int32) (w0_j13_3 : Int32) : Option (Int32 × (Nat → Int32) × (Nat → Nat → Int32)) := ((f_X4_fails S A w0_j13_3).bind fun (v_9, S_6, A_7) => (if v_9 = 0 then ((f_X4_isDraft S_6 A_7 ).bind fun (v_17, S_14, A_15) => (if v_17 = 0 then (some (0, (upd S_14 8 2), A_15)) else if (((39 + x1) - 65) < 0 ∨ 44 ≤ ((39 + x1) - 65).toNatClampNeg) then none else ((f_X4_worth 30 S_14 A_15 0 (S_14 19)).bind fun v_22 => ((f_X4_keeps_0 S_14 A_15 ).bind fun (S_26, A_27) => if (((39 + x1) - 65) < 0 ∨ 44 ≤ ((39 + x1) - 65).toNatClampNeg) then none else (some (((A_15 0) ((39 + x1) - 65).toNatClampNeg), S_26, (va_up A_27 0 (upd (A_27 0) ((39 + x1) - 65).toNatClampNeg v_22)))))))) else (some (0, S_6, A_7))))
def f_X4_keep (S : Nat → Int32) (A : Nat → Nat → Int32) (x1 : Int32) : Option (Int32 × (Nat → Int32) × (Nat → Nat → Int32)) := (if (f_X4_isSky x1) = 0 then (f_X4_keep_j13_3 x1 S A 1) else (f_X4_keep_j13_3 x1 S A 0))
abbrev rm_X4_keep : Room := { frames := 37, cells := 0, slots := 0, locals := 2024 }
set_option maxHeartbeats 4000000 in
theorem ct_X4_keep (Ev : rb_E) (h : AH) (n : Nat) (o : Nat) (a : Nat → Nat) (S : Nat → Int32) (A : Nat → Nat → Int32) (x1 : Int32) (rv : Int32) (rS : Nat → Int32) (rA : Nat → Nat → Int32) (hM : MD Ev h o a S A) (hf : f_X4_keep S A x1 = some (rv, rS, rA)) : Ct Ev yX4_keep (ws_ yX4_keep cX4_keep 4 (some .int)) rm_X4_keep [.ref o, .int x1] h n (pM Ev .int o a h n rv rS rA) := by
  refine Ct.of rfl (Nat.le_of_ble_eq_true rfl) fun X C hnm => ?_
  have C : Cx Ev X RX4 cX4_keep 4 (some .int) [] := C
  show Wa Ev X rm_X4_keep 4 h n 0 0 (rb_MQ Ev X rm_X4_keep (pM Ev .int o a h n rv rS rA)) 0 [(0, .ref o), (1, .int x1)] []
  have hF : mdFr h h o a := mdFr.rf
  rw [f_X4_keep] at hf
  refine rb_aload_n C dX4_keep_0 rfl 0 rfl ?_
  refine rb_iload_n C dX4_keep_1 rfl 1 rfl ?_
  refine rb_zSR C mi_X4_isSky ss_X4_107 (ct_X4_isSky Ev h n x1 _ rfl) (rest := [.ref o]) rfl rfl (Nat.le_of_ble_eq_true rfl) ⟨Nat.le_of_ble_eq_true rfl, Nat.le_of_ble_eq_true rfl⟩ ⟨Nat.zero_le _, Nat.zero_le _⟩ dX4_keep_2 (fun hn_1 => ?_)
  have J_j13_3 : ∀ (w0_j13_3 : Int32), f_X4_keep_j13_3 x1 S A w0_j13_3 = some (rv, rS, rA) → Wa Ev X rm_X4_keep 4 h n 0 0 (rb_MQ Ev X rm_X4_keep (pM Ev .int o a h n rv rS rA)) 13 [(0, .ref o), (1, .int x1)] [.int w0_j13_3, .ref o] := by
    intro w0_j13_3 hf
    rw [f_X4_keep_j13_3] at hf
    obtain ⟨⟨v_9, S_6, A_7⟩, e_5, hf⟩ := rb_bd hf
    refine rb_zVM C mi_X4_fails sv_X4_123 (IsC.of (Or.inl hM.1) ck_X4) (ct_X4_fails Ev h n o a S A w0_j13_3 _ _ _ hM e_5) (rest := []) rfl rfl (Nat.le_of_ble_eq_true rfl) ⟨Nat.le_of_ble_eq_true rfl, Nat.le_of_ble_eq_true rfl⟩ ⟨Nat.zero_le _, Nat.zero_le _⟩ dX4_keep_13 (fun h_8 hM hF1 hn_10 => ?_)
    have hF := hF.tr hF1
    refine rb_if_eq (tgt := 21) C dX4_keep_16 (by decide) (fun c_11 => ?_) (fun c_11 => ?_)
    · have hf := (if_pos c_11).symm.trans hf
      refine rb_aload_n C dX4_keep_21 rfl 0 rfl ?_
      obtain ⟨⟨v_17, S_14, A_15⟩, e_13, hf⟩ := rb_bd hf
      refine rb_zVM C mi_X4_isDraft sv_X4_185 (IsC.of (Or.inl hM.1) ck_X4) (ct_X4_isDraft Ev h_8 n o a S_6 A_7  _ _ _ hM e_13) (rest := []) rfl rfl (Nat.le_of_ble_eq_true rfl) ⟨Nat.le_of_ble_eq_true rfl, Nat.le_of_ble_eq_true rfl⟩ ⟨Nat.zero_le _, Nat.zero_le _⟩ dX4_keep_22 (fun h_16 hM hF1 hn_18 => ?_)
      have hF := hF.tr hF1
      refine rb_if_ne (tgt := 35) C dX4_keep_25 (by decide) (fun c_19 => ?_) (fun c_19 => ?_)
      · have hf := (if_neg c_19).symm.trans hf
        refine rb_aload_n C dX4_keep_35 rfl 0 rfl ?_
        refine rb_get (v := .ref (a 0)) C fl_X4_7_X4 (Or.inl hM.1) rfl dX4_keep_36 ?_
        refine rb_bipush (v := 39) C dX4_keep_39 rfl ?_
        refine rb_iload_n C dX4_keep_41 rfl 1 rfl ?_
        refine rb_iadd C dX4_keep_42 ?_
        refine rb_bipush (v := 65) C dX4_keep_43 rfl ?_
        refine rb_isub C dX4_keep_45 ?_
        by_cases c_g : (((39 + x1) - 65) < 0 ∨ 44 ≤ ((39 + x1) - 65).toNatClampNeg)
        · exact absurd ((if_pos c_g).symm.trans hf) (fun z => by cases z)
        have hf := (if_neg c_g).symm.trans hf
        refine rb_iald (f := (A_15 0)) C (Or.inl (hM.2.1 0 rfl)) (rb_nN c_g) dX4_keep_46 ?_
        refine rb_istore_n (lv' := [(2, .int ((A_15 0) ((39 + x1) - 65).toNatClampNeg)), (0, .ref o), (1, .int x1)]) C dX4_keep_47 rfl (by decide) rfl ?_
        refine rb_aload_n C dX4_keep_48 rfl 1 rfl ?_
        refine rb_iconst (v := 0) C dX4_keep_49 rfl ?_
        refine rb_aload_n C dX4_keep_50 rfl 1 rfl ?_
        refine rb_get (v := .int (S_14 19)) C fl_X4_161_X4 (Or.inl hM.1) rfl dX4_keep_51 ?_
        obtain ⟨v_22, e_21, hf⟩ := rb_bd hf
        refine rb_zVR C mi_X4_worth sv_X4_176 (IsC.of (Or.inl hM.1) ck_X4) (ct_X4_worth Ev h_16 n 30 o a S_14 A_15 0 (S_14 19) _ hM e_21) (rest := []) rfl rfl (Nat.le_of_ble_eq_true rfl) ⟨Nat.le_of_ble_eq_true rfl, Nat.le_of_ble_eq_true rfl⟩ ⟨Nat.zero_le _, Nat.zero_le _⟩ dX4_keep_54 (fun hn_23 => ?_)
        refine rb_istore_n (lv' := [(3, .int v_22), (2, .int ((A_15 0) ((39 + x1) - 65).toNatClampNeg)), (0, .ref o), (1, .int x1)]) C dX4_keep_57 rfl (by decide) rfl ?_
        refine rb_aload_n C dX4_keep_58 rfl 2 rfl ?_
        refine rb_aload_n C dX4_keep_59 rfl 2 rfl ?_
        refine rb_get (v := .ref (a 0)) C fl_X4_7_X4 (Or.inl hM.1) rfl dX4_keep_60 ?_
        obtain ⟨⟨S_26, A_27⟩, e_25, hf⟩ := rb_bd hf
        refine rb_zVMv C mi_X4_keeps sv_X4_134 (IsC.of (Or.inl hM.1) ck_X4) (ct_X4_keeps_0 Ev h_16 n o a S_14 A_15  _ _ hM e_25) (rest := []) rfl rfl (Nat.le_of_ble_eq_true rfl) ⟨Nat.le_of_ble_eq_true rfl, Nat.le_of_ble_eq_true rfl⟩ ⟨Nat.zero_le _, Nat.zero_le _⟩ dX4_keep_63 (fun h_28 hM hF1 => ?_)
        have hF := hF.tr hF1
        refine rb_aload_n C dX4_keep_66 rfl 2 rfl ?_
        refine rb_get (v := .ref (a 0)) C fl_X4_7_X4 (Or.inl hM.1) rfl dX4_keep_67 ?_
        refine rb_bipush (v := 39) C dX4_keep_70 rfl ?_
        refine rb_iload_n C dX4_keep_72 rfl 3 rfl ?_
        refine rb_iadd C dX4_keep_73 ?_
        refine rb_bipush (v := 65) C dX4_keep_74 rfl ?_
        refine rb_isub C dX4_keep_76 ?_
        refine rb_iload_n C dX4_keep_77 rfl 0 rfl ?_
        by_cases c_g : (((39 + x1) - 65) < 0 ∨ 44 ≤ ((39 + x1) - 65).toNatClampNeg)
        · exact absurd ((if_pos c_g).symm.trans hf) (fun z => by cases z)
        have hf := (if_neg c_g).symm.trans hf
        refine rb_iast (f := (A_27 0)) C (hM.2.1 0 rfl) (rb_nN c_g) dX4_keep_78 (fun h_30 e1 e2 => ?_)
        have hM : MD Ev h_30 o a S_26 (va_up A_27 0 (upd (A_27 0) ((39 + x1) - 65).toNatClampNeg v_22)) := hM.ast 0 rfl e1 e2
        have hF := hF.ast 0 rfl e2
        refine rb_iload_n C dX4_keep_79 rfl 1 rfl ?_
        cases hf
        exact rb_iret C rfl rfl (Nat.zero_le _) (Nat.zero_le _) dX4_keep_80 ⟨rfl, rfl, hM, hF, rfl⟩
      · have hf := (if_pos c_19).symm.trans hf
        refine rb_aload_n C dX4_keep_28 rfl 0 rfl ?_
        refine rb_iconst (v := 2) C dX4_keep_29 rfl ?_
        refine rb_put (v := .int 2) C fw_X4_73_X4 hM.1 rfl rfl (Nat.le_of_ble_eq_true rfl) dX4_keep_30 (fun h_31 e1 e2 => ?_)
        have hM : MD Ev h_31 o a (upd S_14 8 2) A_15 := hM.put e1 e2 rfl
        have hF := hF.put e2
        refine rb_iconst (v := 0) C dX4_keep_33 rfl ?_
        cases hf
        exact rb_iret C rfl rfl (Nat.zero_le _) (Nat.zero_le _) dX4_keep_34 ⟨rfl, rfl, hM, hF, rfl⟩
    · have hf := (if_neg c_11).symm.trans hf
      refine rb_iconst (v := 0) C dX4_keep_19 rfl ?_
      cases hf
      exact rb_iret C rfl rfl (Nat.zero_le _) (Nat.zero_le _) dX4_keep_20 ⟨rfl, rfl, hM, hF, rfl⟩
  refine rb_if_eq (tgt := 12) C dX4_keep_5 (by decide) (fun c_2 => ?_) (fun c_2 => ?_)
  · have hf := (if_pos c_2).symm.trans hf
    refine rb_iconst (v := 1) C dX4_keep_12 rfl ?_
    exact J_j13_3 1 hf
  · have hf := (if_neg c_2).symm.trans hf
    refine rb_iconst (v := 0) C dX4_keep_8 rfl ?_
    refine rb_goto (tgt := 13) C dX4_keep_9 (by decide) ?_
    exact J_j13_3 0 hf
def f_X4_sky_j13_3 (x1 : Int32) (S : Nat → Int32) (A : Nat → Nat → Int32) (w0_j13_3 : Int32) : Option (Int32 × (Nat → Int32) × (Nat → Nat → Int32)) := ((f_X4_fails S A w0_j13_3).bind fun (v_9, S_6, A_7) => (if v_9 = 0 then if (((39 + x1) - 65) < 0 ∨ 44 ≤ ((39 + x1) - 65).toNatClampNeg) then none else (some (((A_7 0) ((39 + x1) - 65).toNatClampNeg), S_6, A_7)) else (some (0, S_6, A_7))))
def f_X4_sky (S : Nat → Int32) (A : Nat → Nat → Int32) (x1 : Int32) : Option (Int32 × (Nat → Int32) × (Nat → Nat → Int32)) := (if (f_X4_isSky x1) = 0 then (f_X4_sky_j13_3 x1 S A 1) else (f_X4_sky_j13_3 x1 S A 0))
abbrev rm_X4_sky : Room := { frames := 2, cells := 0, slots := 0, locals := 42 }
set_option maxHeartbeats 4000000 in
theorem ct_X4_sky (Ev : rb_E) (h : AH) (n : Nat) (o : Nat) (a : Nat → Nat) (S : Nat → Int32) (A : Nat → Nat → Int32) (x1 : Int32) (rv : Int32) (rS : Nat → Int32) (rA : Nat → Nat → Int32) (hM : MD Ev h o a S A) (hf : f_X4_sky S A x1 = some (rv, rS, rA)) : Ct Ev yX4_sky (ws_ yX4_sky cX4_sky 2 (some .int)) rm_X4_sky [.ref o, .int x1] h n (pM Ev .int o a h n rv rS rA) := by
  refine Ct.of rfl (Nat.le_of_ble_eq_true rfl) fun X C hnm => ?_
  have C : Cx Ev X RX4 cX4_sky 2 (some .int) [] := C
  show Wa Ev X rm_X4_sky 2 h n 0 0 (rb_MQ Ev X rm_X4_sky (pM Ev .int o a h n rv rS rA)) 0 [(0, .ref o), (1, .int x1)] []
  have hF : mdFr h h o a := mdFr.rf
  rw [f_X4_sky] at hf
  refine rb_aload_n C dX4_sky_0 rfl 0 rfl ?_
  refine rb_iload_n C dX4_sky_1 rfl 1 rfl ?_
  refine rb_zSR C mi_X4_isSky ss_X4_107 (ct_X4_isSky Ev h n x1 _ rfl) (rest := [.ref o]) rfl rfl (Nat.le_of_ble_eq_true rfl) ⟨Nat.le_of_ble_eq_true rfl, Nat.le_of_ble_eq_true rfl⟩ ⟨Nat.zero_le _, Nat.zero_le _⟩ dX4_sky_2 (fun hn_1 => ?_)
  have J_j13_3 : ∀ (w0_j13_3 : Int32), f_X4_sky_j13_3 x1 S A w0_j13_3 = some (rv, rS, rA) → Wa Ev X rm_X4_sky 2 h n 0 0 (rb_MQ Ev X rm_X4_sky (pM Ev .int o a h n rv rS rA)) 13 [(0, .ref o), (1, .int x1)] [.int w0_j13_3, .ref o] := by
    intro w0_j13_3 hf
    rw [f_X4_sky_j13_3] at hf
    obtain ⟨⟨v_9, S_6, A_7⟩, e_5, hf⟩ := rb_bd hf
    refine rb_zVM C mi_X4_fails sv_X4_123 (IsC.of (Or.inl hM.1) ck_X4) (ct_X4_fails Ev h n o a S A w0_j13_3 _ _ _ hM e_5) (rest := []) rfl rfl (Nat.le_of_ble_eq_true rfl) ⟨Nat.le_of_ble_eq_true rfl, Nat.le_of_ble_eq_true rfl⟩ ⟨Nat.zero_le _, Nat.zero_le _⟩ dX4_sky_13 (fun h_8 hM hF1 hn_10 => ?_)
    have hF := hF.tr hF1
    refine rb_if_eq (tgt := 23) C dX4_sky_16 (by decide) (fun c_11 => ?_) (fun c_11 => ?_)
    · have hf := (if_pos c_11).symm.trans hf
      refine rb_aload_n C dX4_sky_23 rfl 0 rfl ?_
      refine rb_get (v := .ref (a 0)) C fl_X4_7_X4 (Or.inl hM.1) rfl dX4_sky_24 ?_
      refine rb_bipush (v := 39) C dX4_sky_27 rfl ?_
      refine rb_iload_n C dX4_sky_29 rfl 1 rfl ?_
      refine rb_iadd C dX4_sky_30 ?_
      refine rb_bipush (v := 65) C dX4_sky_31 rfl ?_
      refine rb_isub C dX4_sky_33 ?_
      by_cases c_g : (((39 + x1) - 65) < 0 ∨ 44 ≤ ((39 + x1) - 65).toNatClampNeg)
      · exact absurd ((if_pos c_g).symm.trans hf) (fun z => by cases z)
      have hf := (if_neg c_g).symm.trans hf
      refine rb_iald (f := (A_7 0)) C (Or.inl (hM.2.1 0 rfl)) (rb_nN c_g) dX4_sky_34 ?_
      cases hf
      exact rb_iret C rfl rfl (Nat.zero_le _) (Nat.zero_le _) dX4_sky_35 ⟨rfl, rfl, hM, hF, rfl⟩
    · have hf := (if_neg c_11).symm.trans hf
      refine rb_iconst (v := 0) C dX4_sky_19 rfl ?_
      refine rb_goto (tgt := 35) C dX4_sky_20 (by decide) ?_
      cases hf
      exact rb_iret C rfl rfl (Nat.zero_le _) (Nat.zero_le _) dX4_sky_35 ⟨rfl, rfl, hM, hF, rfl⟩
  refine rb_if_eq (tgt := 12) C dX4_sky_5 (by decide) (fun c_2 => ?_) (fun c_2 => ?_)
  · have hf := (if_pos c_2).symm.trans hf
    refine rb_iconst (v := 1) C dX4_sky_12 rfl ?_
    exact J_j13_3 1 hf
  · have hf := (if_neg c_2).symm.trans hf
    refine rb_iconst (v := 0) C dX4_sky_8 rfl ?_
    refine rb_goto (tgt := 13) C dX4_sky_9 (by decide) ?_
    exact J_j13_3 0 hf
def f_X4_pairs_j38_12 (y1_l13_9 : Int32) (y2_l13_9 : Int32) (rec_l13_9 : Int32 → Int32 → Option (Int32 × (Nat → Int32) × (Nat → Nat → Int32))) (w0_j38_12 : Int32) : Option (Int32 × (Nat → Int32) × (Nat → Nat → Int32)) := (rec_l13_9 (y1_l13_9 + w0_j38_12) (y2_l13_9 + 1))
def f_X4_pairs_l13_9 (S_3 : Nat → Int32) (A_4 : Nat → Nat → Int32) : Nat → Int32 → Int32 → Option (Int32 × (Nat → Int32) × (Nat → Nat → Int32))
  | 0, _, _ => none
  | k_l13_9 + 1, y1_l13_9, y2_l13_9 => (if (S_3 19) ≤ y2_l13_9 then (some (y1_l13_9, S_3, A_4)) else if (y2_l13_9 < 0 ∨ 24 ≤ y2_l13_9.toNatClampNeg) then none else (if ((A_4 17) y2_l13_9.toNatClampNeg) = 40 then (f_X4_pairs_j38_12 y1_l13_9 y2_l13_9 (f_X4_pairs_l13_9 S_3 A_4 k_l13_9) 1) else (f_X4_pairs_j38_12 y1_l13_9 y2_l13_9 (f_X4_pairs_l13_9 S_3 A_4 k_l13_9) 0)))
def f_X4_pairs (S : Nat → Int32) (A : Nat → Nat → Int32) : Option (Int32 × (Nat → Int32) × (Nat → Nat → Int32)) := ((f_X4_isDraft S A ).bind fun (v_6, S_3, A_4) => (if v_6 = 0 then (some (0, S_3, A_4)) else (f_X4_pairs_l13_9 S_3 A_4 4096 0 0)))
abbrev rm_X4_pairs : Room := { frames := 5, cells := 0, slots := 0, locals := 109 }
set_option maxHeartbeats 4000000 in
theorem ct_X4_pairs (Ev : rb_E) (h : AH) (n : Nat) (o : Nat) (a : Nat → Nat) (S : Nat → Int32) (A : Nat → Nat → Int32)  (rv : Int32) (rS : Nat → Int32) (rA : Nat → Nat → Int32) (hM : MD Ev h o a S A) (hf : f_X4_pairs S A = some (rv, rS, rA)) : Ct Ev yX4_pairs (ws_ yX4_pairs cX4_pairs 3 (some .int)) rm_X4_pairs [.ref o] h n (pM Ev .int o a h n rv rS rA) := by
  refine Ct.of rfl (Nat.le_of_ble_eq_true rfl) fun X C hnm => ?_
  have C : Cx Ev X RX4 cX4_pairs 3 (some .int) [] := C
  show Wa Ev X rm_X4_pairs 3 h n 0 0 (rb_MQ Ev X rm_X4_pairs (pM Ev .int o a h n rv rS rA)) 0 [(0, .ref o)] []
  have hF : mdFr h h o a := mdFr.rf
  rw [f_X4_pairs] at hf
  refine rb_aload_n C dX4_pairs_0 rfl 0 rfl ?_
  obtain ⟨⟨v_6, S_3, A_4⟩, e_2, hf⟩ := rb_bd hf
  refine rb_zVM C mi_X4_isDraft sv_X4_185 (IsC.of (Or.inl hM.1) ck_X4) (ct_X4_isDraft Ev h n o a S A  _ _ _ hM e_2) (rest := []) rfl rfl (Nat.le_of_ble_eq_true rfl) ⟨Nat.le_of_ble_eq_true rfl, Nat.le_of_ble_eq_true rfl⟩ ⟨Nat.zero_le _, Nat.zero_le _⟩ dX4_pairs_1 (fun h_5 hM hF1 hn_7 => ?_)
  have hF := hF.tr hF1
  refine rb_if_ne (tgt := 9) C dX4_pairs_4 (by decide) (fun c_8 => ?_) (fun c_8 => ?_)
  · have hf := (if_neg c_8).symm.trans hf
    refine rb_iconst (v := 0) C dX4_pairs_9 rfl ?_
    refine rb_istore_n (lv' := [(1, .int 0), (0, .ref o)]) C dX4_pairs_10 rfl (by decide) rfl ?_
    refine rb_iconst (v := 0) C dX4_pairs_11 rfl ?_
    refine rb_istore_n (lv' := [(2, .int 0), (1, .int 0), (0, .ref o)]) C dX4_pairs_12 rfl (by decide) rfl ?_
    have L_l13_9 : ∀ (k_l13_9 : Nat) (y1_l13_9 : Int32) (y2_l13_9 : Int32), f_X4_pairs_l13_9 S_3 A_4 k_l13_9 y1_l13_9 y2_l13_9 = some (rv, rS, rA) → Wa Ev X rm_X4_pairs 3 h_5 n 0 0 (rb_MQ Ev X rm_X4_pairs (pM Ev .int o a h n rv rS rA)) 13 [(0, .ref o), (1, .int y1_l13_9), (2, .int y2_l13_9)] [] := by
      intro k_l13_9
      induction k_l13_9 with
      | zero => intro y1_l13_9 y2_l13_9 hf; cases hf
      | succ k_l13_9 ih_l13_9 =>
        intro y1_l13_9 y2_l13_9 hf
        rw [f_X4_pairs_l13_9] at hf
        refine rb_iload_n C dX4_pairs_13 rfl 2 rfl ?_
        refine rb_aload_n C dX4_pairs_14 rfl 0 rfl ?_
        refine rb_get (v := .int (S_3 19)) C fl_X4_161_X4 (Or.inl hM.1) rfl dX4_pairs_15 ?_
        refine rb_icmp_ge (tgt := 46) C dX4_pairs_18 (by decide) (fun c_10 => ?_) (fun c_10 => ?_)
        · have hf := (if_pos c_10).symm.trans hf
          refine rb_iload_n C dX4_pairs_46 rfl 1 rfl ?_
          cases hf
          exact rb_iret C rfl rfl (Nat.zero_le _) (Nat.zero_le _) dX4_pairs_47 ⟨rfl, rfl, hM, hF, rfl⟩
        · have hf := (if_neg c_10).symm.trans hf
          refine rb_iload_n C dX4_pairs_21 rfl 1 rfl ?_
          refine rb_aload_n C dX4_pairs_22 rfl 0 rfl ?_
          refine rb_get (v := .ref (a 17)) C fl_X4_33_X4 (Or.inl hM.1) rfl dX4_pairs_23 ?_
          refine rb_iload_n C dX4_pairs_26 rfl 2 rfl ?_
          by_cases c_g : (y2_l13_9 < 0 ∨ 24 ≤ y2_l13_9.toNatClampNeg)
          · exact absurd ((if_pos c_g).symm.trans hf) (fun z => by cases z)
          have hf := (if_neg c_g).symm.trans hf
          refine rb_iald (f := (A_4 17)) C (Or.inl (hM.2.1 17 rfl)) (rb_nN c_g) dX4_pairs_27 ?_
          refine rb_bipush (v := 40) C dX4_pairs_28 rfl ?_
          have J_j38_12 : ∀ (w0_j38_12 : Int32), f_X4_pairs_j38_12 y1_l13_9 y2_l13_9 (f_X4_pairs_l13_9 S_3 A_4 k_l13_9) w0_j38_12 = some (rv, rS, rA) → Wa Ev X rm_X4_pairs 3 h_5 n 0 0 (rb_MQ Ev X rm_X4_pairs (pM Ev .int o a h n rv rS rA)) 38 [(0, .ref o), (1, .int y1_l13_9), (2, .int y2_l13_9)] [.int w0_j38_12, .int y1_l13_9] := by
            intro w0_j38_12 hf
            rw [f_X4_pairs_j38_12] at hf
            refine rb_iadd C dX4_pairs_38 ?_
            refine rb_istore_n (lv' := [(1, .int (y1_l13_9 + w0_j38_12)), (0, .ref o), (2, .int y2_l13_9)]) C dX4_pairs_39 rfl (by decide) rfl ?_
            refine rb_iinc (v := (y2_l13_9 + 1)) (lv' := [(2, .int (y2_l13_9 + 1)), (1, .int (y1_l13_9 + w0_j38_12)), (0, .ref o)]) C dX4_pairs_40 (k := 2) rfl rfl (by decide) rfl ?_
            refine rb_goto (tgt := 13) C dX4_pairs_43 (by decide) ?_
            refine rb_sub [2, 1, 0] rfl ?_
            exact ih_l13_9 (y1_l13_9 + w0_j38_12) (y2_l13_9 + 1) hf
          refine rb_icmp_ne (tgt := 37) C dX4_pairs_30 (by decide) (fun c_11 => ?_) (fun c_11 => ?_)
          · have hf := (if_neg c_11).symm.trans hf
            refine rb_iconst (v := 0) C dX4_pairs_37 rfl ?_
            exact J_j38_12 0 hf
          · have hf := (if_pos c_11).symm.trans hf
            refine rb_iconst (v := 1) C dX4_pairs_33 rfl ?_
            refine rb_goto (tgt := 38) C dX4_pairs_34 (by decide) ?_
            exact J_j38_12 1 hf
    refine rb_sub [2, 1, 0] rfl ?_
    exact L_l13_9 4096 0 0 hf
  · have hf := (if_pos c_8).symm.trans hf
    refine rb_iconst (v := 0) C dX4_pairs_7 rfl ?_
    cases hf
    exact rb_iret C rfl rfl (Nat.zero_le _) (Nat.zero_le _) dX4_pairs_8 ⟨rfl, rfl, hM, hF, rfl⟩
def f_X4_placesOf_j38_5 (y3_l5_1 : Int32) (y4_l5_1 : Int32) (rec_l5_1 : Int32 → Int32 → Option Int32) (w0_j38_5 : Int32) : Option Int32 := (rec_l5_1 (y3_l5_1 ||| w0_j38_5) (y4_l5_1 + 1))
def f_X4_placesOf_l5_1 (x2 : Int32) (A : Nat → Nat → Int32) : Nat → Int32 → Int32 → Option Int32
  | 0, _, _ => none
  | k_l5_1 + 1, y3_l5_1, y4_l5_1 => (if x2 ≤ y4_l5_1 then (some y3_l5_1) else if (y4_l5_1 < 0 ∨ 24 ≤ y4_l5_1.toNatClampNeg) then none else (if (f_X4_isSun ((A 17) y4_l5_1.toNatClampNeg)) = 0 then if (y4_l5_1 < 0 ∨ 24 ≤ y4_l5_1.toNatClampNeg) then none else (f_X4_placesOf_j38_5 y3_l5_1 y4_l5_1 (f_X4_placesOf_l5_1 x2 A k_l5_1) (1 <<< (((A 18) y4_l5_1.toNatClampNeg) &&& 31))) else (f_X4_placesOf_j38_5 y3_l5_1 y4_l5_1 (f_X4_placesOf_l5_1 x2 A k_l5_1) 0)))
def f_X4_placesOf (S : Nat → Int32) (A : Nat → Nat → Int32) (x1 : Int32) (x2 : Int32) : Option Int32 := (f_X4_placesOf_l5_1 x2 A 4096 0 x1)
abbrev rm_X4_placesOf : Room := { frames := 1, cells := 0, slots := 0, locals := 20 }
set_option maxHeartbeats 4000000 in
theorem ct_X4_placesOf (Ev : rb_E) (h : AH) (n : Nat) (o : Nat) (a : Nat → Nat) (S : Nat → Int32) (A : Nat → Nat → Int32) (x1 : Int32) (x2 : Int32) (rv : Int32) (hM : MD Ev h o a S A) (hf : f_X4_placesOf S A x1 x2 = some rv) : Ct Ev yX4_placesOf (ws_ yX4_placesOf cX4_placesOf 5 (some .int)) rm_X4_placesOf [.ref o, .int x1, .int x2] h n (pR .int rv h n) := by
  refine Ct.of rfl (Nat.le_of_ble_eq_true rfl) fun X C hnm => ?_
  have C : Cx Ev X RX4 cX4_placesOf 5 (some .int) [] := C
  show Wa Ev X rm_X4_placesOf 5 h n 0 0 (rb_MQ Ev X rm_X4_placesOf (pR .int rv h n)) 0 [(0, .ref o), (1, .int x1), (2, .int x2)] []
  have hF : mdFr h h o a := mdFr.rf
  rw [f_X4_placesOf] at hf
  refine rb_iconst (v := 0) C dX4_placesOf_0 rfl ?_
  refine rb_istore_n (lv' := [(3, .int 0), (0, .ref o), (1, .int x1), (2, .int x2)]) C dX4_placesOf_1 rfl (by decide) rfl ?_
  refine rb_iload_n C dX4_placesOf_2 rfl 2 rfl ?_
  refine rb_istore (lv' := [(4, .int x1), (3, .int 0), (0, .ref o), (1, .int x1), (2, .int x2)]) C dX4_placesOf_3 (by decide) rfl ?_
  have L_l5_1 : ∀ (k_l5_1 : Nat) (y3_l5_1 : Int32) (y4_l5_1 : Int32), f_X4_placesOf_l5_1 x2 A k_l5_1 y3_l5_1 y4_l5_1 = some rv → Wa Ev X rm_X4_placesOf 5 h n 0 0 (rb_MQ Ev X rm_X4_placesOf (pR .int rv h n)) 5 [(0, .ref o), (1, .int x1), (2, .int x2), (3, .int y3_l5_1), (4, .int y4_l5_1)] [] := by
    intro k_l5_1
    induction k_l5_1 with
    | zero => intro y3_l5_1 y4_l5_1 hf; cases hf
    | succ k_l5_1 ih_l5_1 =>
      intro y3_l5_1 y4_l5_1 hf
      rw [f_X4_placesOf_l5_1] at hf
      refine rb_iload C dX4_placesOf_5 4 rfl ?_
      refine rb_iload_n C dX4_placesOf_7 rfl 2 rfl ?_
      refine rb_icmp_ge (tgt := 46) C dX4_placesOf_8 (by decide) (fun c_2 => ?_) (fun c_2 => ?_)
      · have hf := (if_pos c_2).symm.trans hf
        refine rb_iload_n C dX4_placesOf_46 rfl 3 rfl ?_
        cases hf
        exact rb_iret C rfl rfl (Nat.zero_le _) (Nat.zero_le _) dX4_placesOf_47 ⟨rfl, rfl, rfl, rfl⟩
      · have hf := (if_neg c_2).symm.trans hf
        refine rb_iload_n C dX4_placesOf_11 rfl 3 rfl ?_
        refine rb_aload_n C dX4_placesOf_12 rfl 0 rfl ?_
        refine rb_get (v := .ref (a 17)) C fl_X4_33_X4 (Or.inl hM.1) rfl dX4_placesOf_13 ?_
        refine rb_iload C dX4_placesOf_16 4 rfl ?_
        by_cases c_g : (y4_l5_1 < 0 ∨ 24 ≤ y4_l5_1.toNatClampNeg)
        · exact absurd ((if_pos c_g).symm.trans hf) (fun z => by cases z)
        have hf := (if_neg c_g).symm.trans hf
        refine rb_iald (f := (A 17)) C (Or.inl (hM.2.1 17 rfl)) (rb_nN c_g) dX4_placesOf_18 ?_
        refine rb_zSR C mi_X4_isSun ss_X4_114 (ct_X4_isSun Ev h n ((A 17) y4_l5_1.toNatClampNeg) _ rfl) (rest := [.int y3_l5_1]) rfl rfl (Nat.le_of_ble_eq_true rfl) ⟨Nat.le_of_ble_eq_true rfl, Nat.le_of_ble_eq_true rfl⟩ ⟨Nat.zero_le _, Nat.zero_le _⟩ dX4_placesOf_19 (fun hn_3 => ?_)
        have J_j38_5 : ∀ (w0_j38_5 : Int32), f_X4_placesOf_j38_5 y3_l5_1 y4_l5_1 (f_X4_placesOf_l5_1 x2 A k_l5_1) w0_j38_5 = some rv → Wa Ev X rm_X4_placesOf 5 h n 0 0 (rb_MQ Ev X rm_X4_placesOf (pR .int rv h n)) 38 [(0, .ref o), (1, .int x1), (2, .int x2), (3, .int y3_l5_1), (4, .int y4_l5_1)] [.int w0_j38_5, .int y3_l5_1] := by
          intro w0_j38_5 hf
          rw [f_X4_placesOf_j38_5] at hf
          refine rb_ior C dX4_placesOf_38 ?_
          refine rb_istore_n (lv' := [(3, .int (y3_l5_1 ||| w0_j38_5)), (0, .ref o), (1, .int x1), (2, .int x2), (4, .int y4_l5_1)]) C dX4_placesOf_39 rfl (by decide) rfl ?_
          refine rb_iinc (v := (y4_l5_1 + 1)) (lv' := [(4, .int (y4_l5_1 + 1)), (3, .int (y3_l5_1 ||| w0_j38_5)), (0, .ref o), (1, .int x1), (2, .int x2)]) C dX4_placesOf_40 (k := 4) rfl rfl (by decide) rfl ?_
          refine rb_goto (tgt := 5) C dX4_placesOf_43 (by decide) ?_
          refine rb_sub [2, 3, 4, 1, 0] rfl ?_
          exact ih_l5_1 (y3_l5_1 ||| w0_j38_5) (y4_l5_1 + 1) hf
        refine rb_if_eq (tgt := 29) C dX4_placesOf_22 (by decide) (fun c_4 => ?_) (fun c_4 => ?_)
        · have hf := (if_pos c_4).symm.trans hf
          refine rb_iconst (v := 1) C dX4_placesOf_29 rfl ?_
          refine rb_aload_n C dX4_placesOf_30 rfl 0 rfl ?_
          refine rb_get (v := .ref (a 18)) C fl_X4_36_X4 (Or.inl hM.1) rfl dX4_placesOf_31 ?_
          refine rb_iload C dX4_placesOf_34 4 rfl ?_
          by_cases c_g : (y4_l5_1 < 0 ∨ 24 ≤ y4_l5_1.toNatClampNeg)
          · exact absurd ((if_pos c_g).symm.trans hf) (fun z => by cases z)
          have hf := (if_neg c_g).symm.trans hf
          refine rb_iald (f := (A 18)) C (Or.inl (hM.2.1 18 rfl)) (rb_nN c_g) dX4_placesOf_36 ?_
          refine rb_ishl C dX4_placesOf_37 ?_
          exact J_j38_5 (1 <<< (((A 18) y4_l5_1.toNatClampNeg) &&& 31)) hf
        · have hf := (if_neg c_4).symm.trans hf
          refine rb_iconst (v := 0) C dX4_placesOf_25 rfl ?_
          refine rb_goto (tgt := 38) C dX4_placesOf_26 (by decide) ?_
          exact J_j38_5 0 hf
  refine rb_sub [2, 3, 4, 1, 0] rfl ?_
  exact L_l5_1 4096 0 x1 hf
def f_X4_applies_j100_7 (x1 : Int32) (x2 : Int32) (self_ : (Nat → Int32) → (Nat → Nat → Int32) → Int32 → Int32 → Option ((Nat → Int32) × (Nat → Nat → Int32))) (S_j100_7 : Nat → Int32) (A_j100_7 : Nat → Nat → Int32) : Option ((Nat → Int32) × (Nat → Nat → Int32)) := if (x1 < 0 ∨ 24 ≤ x1.toNatClampNeg) then none else (if ((A_j100_7 17) x1.toNatClampNeg) = 40 then ((self_ S_j100_7 A_j100_7 (x1 + 1) (x2 - 1)).bind fun (S_11, A_12) => (some (S_11, A_12))) else (some (S_j100_7, A_j100_7)))
def f_X4_applies : Nat → (Nat → Int32) → (Nat → Nat → Int32) → Int32 → Int32 → Option ((Nat → Int32) × (Nat → Nat → Int32))
  | 0, _, _, _, _ => none
  | d + 1, S, A, x1, x2 => ((f_X4_split S A x1 x2).bind fun v_3 => (if v_3 < 0 then if (x1 < 0 ∨ 24 ≤ x1.toNatClampNeg) then none else (if ((A 17) x1.toNatClampNeg) = 126 then if (x1 < 0 ∨ 24 ≤ x1.toNatClampNeg) then none else ((f_X4_placesOf S A (x1 + 1) x2).bind fun v_17 => if (((A 18) x1.toNatClampNeg) < 0 ∨ 24 ≤ ((A 18) x1.toNatClampNeg).toNatClampNeg) then none else (((f_X4_applies d) S (va_up A 21 (upd (A 21) ((A 18) x1.toNatClampNeg).toNatClampNeg v_17)) (x1 + 1) x2).bind fun (S_22, A_23) => (f_X4_applies_j100_7 x1 x2 (f_X4_applies d) S_22 A_23))) else (f_X4_applies_j100_7 x1 x2 (f_X4_applies d) S A)) else if (v_3 < 0 ∨ 24 ≤ v_3.toNatClampNeg) then none else ((f_X4_placesOf S A x1 v_3).bind fun v_28 => if (((A 18) v_3.toNatClampNeg) < 0 ∨ 24 ≤ ((A 18) v_3.toNatClampNeg).toNatClampNeg) then none else if (v_3 < 0 ∨ 24 ≤ v_3.toNatClampNeg) then none else ((f_X4_placesOf S (va_up A 20 (upd (A 20) ((A 18) v_3.toNatClampNeg).toNatClampNeg v_28)) (v_3 + 1) x2).bind fun v_33 => if (((A 18) v_3.toNatClampNeg) < 0 ∨ 24 ≤ ((A 18) v_3.toNatClampNeg).toNatClampNeg) then none else (((f_X4_applies d) S (va_up (va_up A 20 (upd (A 20) ((A 18) v_3.toNatClampNeg).toNatClampNeg v_28)) 21 (upd (A 21) ((A 18) v_3.toNatClampNeg).toNatClampNeg v_33)) x1 v_3).bind fun (S_38, A_39) => (((f_X4_applies d) S_38 A_39 (v_3 + 1) x2).bind fun (S_44, A_45) => (some (S_44, A_45))))))))
abbrev rm_X4_applies (d : Nat) : Room := { frames := 6 + d, cells := 0, slots := 0, locals := 200 + 60 * d }
set_option maxHeartbeats 4000000 in
theorem ct_X4_applies (Ev : rb_E) (h : AH) (n : Nat) (d : Nat) (o : Nat) (a : Nat → Nat) (S : Nat → Int32) (A : Nat → Nat → Int32) (x1 : Int32) (x2 : Int32) (rS : Nat → Int32) (rA : Nat → Nat → Int32) (hM : MD Ev h o a S A) (hf : f_X4_applies d S A x1 x2 = some (rS, rA)) : Ct Ev yX4_applies (ws_ yX4_applies cX4_applies 4 none) (rm_X4_applies d) [.ref o, .int x1, .int x2] h n (pMv Ev o a h n none rS rA) := by
  induction d generalizing h S A x1 x2 rS rA with
  | zero => cases hf
  | succ d ih =>
    refine Ct.of rfl (Nat.le_of_ble_eq_true rfl) fun X C hnm => ?_
    have C : Cx Ev X RX4 cX4_applies 4 none [] := C
    show Wa Ev X (rm_X4_applies (d + 1)) 4 h n 0 0 (rb_MQ Ev X (rm_X4_applies (d + 1)) (pMv Ev o a h n none rS rA)) 0 [(0, .ref o), (1, .int x1), (2, .int x2)] []
    have hF : mdFr h h o a := mdFr.rf
    rw [f_X4_applies] at hf
    refine rb_aload_n C dX4_applies_0 rfl 0 rfl ?_
    refine rb_iload_n C dX4_applies_1 rfl 1 rfl ?_
    refine rb_iload_n C dX4_applies_2 rfl 2 rfl ?_
    obtain ⟨v_3, e_2, hf⟩ := rb_bd hf
    refine rb_zVR C mi_X4_split sv_X4_173 (IsC.of (Or.inl hM.1) ck_X4) (ct_X4_split Ev h n o a S A x1 x2 _ hM e_2) (rest := []) rfl rfl (Nat.le_of_ble_eq_true rfl) ⟨by show _ + 1 ≤ 6 + (d + 1); omega, by show _ ≤ 200 + 60 * (d + 1); omega⟩ ⟨Nat.zero_le _, Nat.zero_le _⟩ dX4_applies_3 (fun hn_4 => ?_)
    refine rb_istore_n (lv' := [(3, .int v_3), (0, .ref o), (1, .int x1), (2, .int x2)]) C dX4_applies_6 rfl (by decide) rfl ?_
    refine rb_iload_n C dX4_applies_7 rfl 0 rfl ?_
    refine rb_if_lt (tgt := 62) C dX4_applies_8 (by decide) (fun c_5 => ?_) (fun c_5 => ?_)
    · have hf := (if_pos c_5).symm.trans hf
      refine rb_aload_n C dX4_applies_62 rfl 1 rfl ?_
      refine rb_get (v := .ref (a 17)) C fl_X4_33_X4 (Or.inl hM.1) rfl dX4_applies_63 ?_
      refine rb_iload_n C dX4_applies_66 rfl 2 rfl ?_
      by_cases c_g : (x1 < 0 ∨ 24 ≤ x1.toNatClampNeg)
      · exact absurd ((if_pos c_g).symm.trans hf) (fun z => by cases z)
      have hf := (if_neg c_g).symm.trans hf
      refine rb_iald (f := (A 17)) C (Or.inl (hM.2.1 17 rfl)) (rb_nN c_g) dX4_applies_67 ?_
      refine rb_bipush (v := 126) C dX4_applies_68 rfl ?_
      have J_j100_7 : ∀  (S_j100_7 : Nat → Int32) (A_j100_7 : Nat → Nat → Int32) (h_j100_7 : AH), MD Ev h_j100_7 o a S_j100_7 A_j100_7 → mdFr h h_j100_7 o a → f_X4_applies_j100_7 x1 x2 (f_X4_applies d) S_j100_7 A_j100_7 = some (rS, rA) → Wa Ev X (rm_X4_applies (d + 1)) 4 h_j100_7 n 0 0 (rb_MQ Ev X (rm_X4_applies (d + 1)) (pMv Ev o a h n none rS rA)) 100 [(0, .ref o), (1, .int x1), (2, .int x2), (3, .int v_3)] [] := by
        intro  S_j100_7 A_j100_7 h_j100_7 hM hF hf
        rw [f_X4_applies_j100_7] at hf
        refine rb_aload_n C dX4_applies_100 rfl 0 rfl ?_
        refine rb_get (v := .ref (a 17)) C fl_X4_33_X4 (Or.inl hM.1) rfl dX4_applies_101 ?_
        refine rb_iload_n C dX4_applies_104 rfl 1 rfl ?_
        by_cases c_g : (x1 < 0 ∨ 24 ≤ x1.toNatClampNeg)
        · exact absurd ((if_pos c_g).symm.trans hf) (fun z => by cases z)
        have hf := (if_neg c_g).symm.trans hf
        refine rb_iald (f := (A_j100_7 17)) C (Or.inl (hM.2.1 17 rfl)) (rb_nN c_g) dX4_applies_105 ?_
        refine rb_bipush (v := 40) C dX4_applies_106 rfl ?_
        refine rb_icmp_ne (tgt := 121) C dX4_applies_108 (by decide) (fun c_8 => ?_) (fun c_8 => ?_)
        · have hf := (if_neg c_8).symm.trans hf
          cases hf
          exact rb_vret C rfl (Nat.zero_le _) (Nat.zero_le _) dX4_applies_121 ⟨rfl, rfl, hM, hF⟩
        · have hf := (if_pos c_8).symm.trans hf
          refine rb_aload_n C dX4_applies_111 rfl 0 rfl ?_
          refine rb_iload_n C dX4_applies_112 rfl 1 rfl ?_
          refine rb_iconst (v := 1) C dX4_applies_113 rfl ?_
          refine rb_iadd C dX4_applies_114 ?_
          refine rb_iload_n C dX4_applies_115 rfl 2 rfl ?_
          refine rb_iconst (v := 1) C dX4_applies_116 rfl ?_
          refine rb_isub C dX4_applies_117 ?_
          obtain ⟨⟨S_11, A_12⟩, e_10, hf⟩ := rb_bd hf
          refine rb_zVMv C mi_X4_applies sv_X4_195 (IsC.of (Or.inl hM.1) ck_X4) (ih h_j100_7 S_j100_7 A_j100_7 (x1 + 1) (x2 - 1) _ _ hM e_10) (rest := []) rfl rfl (Nat.le_of_ble_eq_true rfl) ⟨by show _ + 1 ≤ 6 + (d + 1); omega, by show _ ≤ 200 + 60 * (d + 1); omega⟩ ⟨Nat.zero_le _, Nat.zero_le _⟩ dX4_applies_118 (fun h_13 hM hF1 => ?_)
          have hF := hF.tr hF1
          cases hf
          exact rb_vret C rfl (Nat.zero_le _) (Nat.zero_le _) dX4_applies_121 ⟨rfl, rfl, hM, hF⟩
      refine rb_icmp_ne (tgt := 100) C dX4_applies_70 (by decide) (fun c_6 => ?_) (fun c_6 => ?_)
      · have hf := (if_neg c_6).symm.trans hf
        refine rb_sub [1, 2, 3, 0] rfl ?_
        exact J_j100_7 S A h hM hF hf
      · have hf := (if_pos c_6).symm.trans hf
        refine rb_aload_n C dX4_applies_73 rfl 1 rfl ?_
        refine rb_get (v := .ref (a 21)) C fl_X4_42_X4 (Or.inl hM.1) rfl dX4_applies_74 ?_
        refine rb_aload_n C dX4_applies_77 rfl 1 rfl ?_
        refine rb_get (v := .ref (a 18)) C fl_X4_36_X4 (Or.inl hM.1) rfl dX4_applies_78 ?_
        refine rb_iload_n C dX4_applies_81 rfl 2 rfl ?_
        by_cases c_g : (x1 < 0 ∨ 24 ≤ x1.toNatClampNeg)
        · exact absurd ((if_pos c_g).symm.trans hf) (fun z => by cases z)
        have hf := (if_neg c_g).symm.trans hf
        refine rb_iald (f := (A 18)) C (Or.inl (hM.2.1 18 rfl)) (rb_nN c_g) dX4_applies_82 ?_
        refine rb_aload_n C dX4_applies_83 rfl 1 rfl ?_
        refine rb_iload_n C dX4_applies_84 rfl 2 rfl ?_
        refine rb_iconst (v := 1) C dX4_applies_85 rfl ?_
        refine rb_iadd C dX4_applies_86 ?_
        refine rb_iload_n C dX4_applies_87 rfl 3 rfl ?_
        obtain ⟨v_17, e_16, hf⟩ := rb_bd hf
        refine rb_zVR C mi_X4_placesOf sv_X4_192 (IsC.of (Or.inl hM.1) ck_X4) (ct_X4_placesOf Ev h n o a S A (x1 + 1) x2 _ hM e_16) (rest := [.int ((A 18) x1.toNatClampNeg), .ref (a 21)]) rfl rfl (Nat.le_of_ble_eq_true rfl) ⟨by show _ + 1 ≤ 6 + (d + 1); omega, by show _ ≤ 200 + 60 * (d + 1); omega⟩ ⟨Nat.zero_le _, Nat.zero_le _⟩ dX4_applies_88 (fun hn_18 => ?_)
        by_cases c_g : (((A 18) x1.toNatClampNeg) < 0 ∨ 24 ≤ ((A 18) x1.toNatClampNeg).toNatClampNeg)
        · exact absurd ((if_pos c_g).symm.trans hf) (fun z => by cases z)
        have hf := (if_neg c_g).symm.trans hf
        refine rb_iast (f := (A 21)) C (hM.2.1 21 rfl) (rb_nN c_g) dX4_applies_91 (fun h_19 e1 e2 => ?_)
        have hM : MD Ev h_19 o a S (va_up A 21 (upd (A 21) ((A 18) x1.toNatClampNeg).toNatClampNeg v_17)) := hM.ast 21 rfl e1 e2
        have hF := hF.ast 21 rfl e2
        refine rb_aload_n C dX4_applies_92 rfl 1 rfl ?_
        refine rb_iload_n C dX4_applies_93 rfl 2 rfl ?_
        refine rb_iconst (v := 1) C dX4_applies_94 rfl ?_
        refine rb_iadd C dX4_applies_95 ?_
        refine rb_iload_n C dX4_applies_96 rfl 3 rfl ?_
        obtain ⟨⟨S_22, A_23⟩, e_21, hf⟩ := rb_bd hf
        refine rb_zVMv C mi_X4_applies sv_X4_195 (IsC.of (Or.inl hM.1) ck_X4) (ih h_19 S (va_up A 21 (upd (A 21) ((A 18) x1.toNatClampNeg).toNatClampNeg v_17)) (x1 + 1) x2 _ _ hM e_21) (rest := []) rfl rfl (Nat.le_of_ble_eq_true rfl) ⟨by show _ + 1 ≤ 6 + (d + 1); omega, by show _ ≤ 200 + 60 * (d + 1); omega⟩ ⟨Nat.zero_le _, Nat.zero_le _⟩ dX4_applies_97 (fun h_24 hM hF1 => ?_)
        have hF := hF.tr hF1
        refine rb_sub [1, 2, 3, 0] rfl ?_
        exact J_j100_7 S_22 A_23 h_24 hM hF hf
    · have hf := (if_neg c_5).symm.trans hf
      refine rb_aload_n C dX4_applies_11 rfl 1 rfl ?_
      refine rb_get (v := .ref (a 20)) C fl_X4_39_X4 (Or.inl hM.1) rfl dX4_applies_12 ?_
      refine rb_aload_n C dX4_applies_15 rfl 1 rfl ?_
      refine rb_get (v := .ref (a 18)) C fl_X4_36_X4 (Or.inl hM.1) rfl dX4_applies_16 ?_
      refine rb_iload_n C dX4_applies_19 rfl 0 rfl ?_
      by_cases c_g : (v_3 < 0 ∨ 24 ≤ v_3.toNatClampNeg)
      · exact absurd ((if_pos c_g).symm.trans hf) (fun z => by cases z)
      have hf := (if_neg c_g).symm.trans hf
      refine rb_iald (f := (A 18)) C (Or.inl (hM.2.1 18 rfl)) (rb_nN c_g) dX4_applies_20 ?_
      refine rb_aload_n C dX4_applies_21 rfl 1 rfl ?_
      refine rb_iload_n C dX4_applies_22 rfl 2 rfl ?_
      refine rb_iload_n C dX4_applies_23 rfl 0 rfl ?_
      obtain ⟨v_28, e_27, hf⟩ := rb_bd hf
      refine rb_zVR C mi_X4_placesOf sv_X4_192 (IsC.of (Or.inl hM.1) ck_X4) (ct_X4_placesOf Ev h n o a S A x1 v_3 _ hM e_27) (rest := [.int ((A 18) v_3.toNatClampNeg), .ref (a 20)]) rfl rfl (Nat.le_of_ble_eq_true rfl) ⟨by show _ + 1 ≤ 6 + (d + 1); omega, by show _ ≤ 200 + 60 * (d + 1); omega⟩ ⟨Nat.zero_le _, Nat.zero_le _⟩ dX4_applies_24 (fun hn_29 => ?_)
      by_cases c_g : (((A 18) v_3.toNatClampNeg) < 0 ∨ 24 ≤ ((A 18) v_3.toNatClampNeg).toNatClampNeg)
      · exact absurd ((if_pos c_g).symm.trans hf) (fun z => by cases z)
      have hf := (if_neg c_g).symm.trans hf
      refine rb_iast (f := (A 20)) C (hM.2.1 20 rfl) (rb_nN c_g) dX4_applies_27 (fun h_30 e1 e2 => ?_)
      have hM : MD Ev h_30 o a S (va_up A 20 (upd (A 20) ((A 18) v_3.toNatClampNeg).toNatClampNeg v_28)) := hM.ast 20 rfl e1 e2
      have hF := hF.ast 20 rfl e2
      refine rb_aload_n C dX4_applies_28 rfl 1 rfl ?_
      refine rb_get (v := .ref (a 21)) C fl_X4_42_X4 (Or.inl hM.1) rfl dX4_applies_29 ?_
      refine rb_aload_n C dX4_applies_32 rfl 1 rfl ?_
      refine rb_get (v := .ref (a 18)) C fl_X4_36_X4 (Or.inl hM.1) rfl dX4_applies_33 ?_
      refine rb_iload_n C dX4_applies_36 rfl 0 rfl ?_
      by_cases c_g : (v_3 < 0 ∨ 24 ≤ v_3.toNatClampNeg)
      · exact absurd ((if_pos c_g).symm.trans hf) (fun z => by cases z)
      have hf := (if_neg c_g).symm.trans hf
      refine rb_iald (f := (A 18)) C (Or.inl (hM.2.1 18 rfl)) (rb_nN c_g) dX4_applies_37 ?_
      refine rb_aload_n C dX4_applies_38 rfl 1 rfl ?_
      refine rb_iload_n C dX4_applies_39 rfl 0 rfl ?_
      refine rb_iconst (v := 1) C dX4_applies_40 rfl ?_
      refine rb_iadd C dX4_applies_41 ?_
      refine rb_iload_n C dX4_applies_42 rfl 3 rfl ?_
      obtain ⟨v_33, e_32, hf⟩ := rb_bd hf
      refine rb_zVR C mi_X4_placesOf sv_X4_192 (IsC.of (Or.inl hM.1) ck_X4) (ct_X4_placesOf Ev h_30 n o a S (va_up A 20 (upd (A 20) ((A 18) v_3.toNatClampNeg).toNatClampNeg v_28)) (v_3 + 1) x2 _ hM e_32) (rest := [.int ((A 18) v_3.toNatClampNeg), .ref (a 21)]) rfl rfl (Nat.le_of_ble_eq_true rfl) ⟨by show _ + 1 ≤ 6 + (d + 1); omega, by show _ ≤ 200 + 60 * (d + 1); omega⟩ ⟨Nat.zero_le _, Nat.zero_le _⟩ dX4_applies_43 (fun hn_34 => ?_)
      by_cases c_g : (((A 18) v_3.toNatClampNeg) < 0 ∨ 24 ≤ ((A 18) v_3.toNatClampNeg).toNatClampNeg)
      · exact absurd ((if_pos c_g).symm.trans hf) (fun z => by cases z)
      have hf := (if_neg c_g).symm.trans hf
      refine rb_iast (f := (A 21)) C (hM.2.1 21 rfl) (rb_nN c_g) dX4_applies_46 (fun h_35 e1 e2 => ?_)
      have hM : MD Ev h_35 o a S (va_up (va_up A 20 (upd (A 20) ((A 18) v_3.toNatClampNeg).toNatClampNeg v_28)) 21 (upd (A 21) ((A 18) v_3.toNatClampNeg).toNatClampNeg v_33)) := hM.ast 21 rfl e1 e2
      have hF := hF.ast 21 rfl e2
      refine rb_aload_n C dX4_applies_47 rfl 1 rfl ?_
      refine rb_iload_n C dX4_applies_48 rfl 2 rfl ?_
      refine rb_iload_n C dX4_applies_49 rfl 0 rfl ?_
      obtain ⟨⟨S_38, A_39⟩, e_37, hf⟩ := rb_bd hf
      refine rb_zVMv C mi_X4_applies sv_X4_195 (IsC.of (Or.inl hM.1) ck_X4) (ih h_35 S (va_up (va_up A 20 (upd (A 20) ((A 18) v_3.toNatClampNeg).toNatClampNeg v_28)) 21 (upd (A 21) ((A 18) v_3.toNatClampNeg).toNatClampNeg v_33)) x1 v_3 _ _ hM e_37) (rest := []) rfl rfl (Nat.le_of_ble_eq_true rfl) ⟨by show _ + 1 ≤ 6 + (d + 1); omega, by show _ ≤ 200 + 60 * (d + 1); omega⟩ ⟨Nat.zero_le _, Nat.zero_le _⟩ dX4_applies_50 (fun h_40 hM hF1 => ?_)
      have hF := hF.tr hF1
      refine rb_aload_n C dX4_applies_53 rfl 1 rfl ?_
      refine rb_iload_n C dX4_applies_54 rfl 0 rfl ?_
      refine rb_iconst (v := 1) C dX4_applies_55 rfl ?_
      refine rb_iadd C dX4_applies_56 ?_
      refine rb_iload_n C dX4_applies_57 rfl 3 rfl ?_
      obtain ⟨⟨S_44, A_45⟩, e_43, hf⟩ := rb_bd hf
      refine rb_zVMv C mi_X4_applies sv_X4_195 (IsC.of (Or.inl hM.1) ck_X4) (ih h_40 S_38 A_39 (v_3 + 1) x2 _ _ hM e_43) (rest := []) rfl rfl (Nat.le_of_ble_eq_true rfl) ⟨by show _ + 1 ≤ 6 + (d + 1); omega, by show _ ≤ 200 + 60 * (d + 1); omega⟩ ⟨Nat.zero_le _, Nat.zero_le _⟩ dX4_applies_58 (fun h_46 hM hF1 => ?_)
      have hF := hF.tr hF1
      cases hf
      exact rb_vret C rfl (Nat.zero_le _) (Nat.zero_le _) dX4_applies_61 ⟨rfl, rfl, hM, hF⟩
def f_X4_appliesAll_l2_1  : Nat → Int32 → (Nat → Int32) → (Nat → Nat → Int32) → Option ((Nat → Int32) × (Nat → Nat → Int32))
  | 0, _, _, _ => none
  | k_l2_1 + 1, y1_l2_1, S_l2_1, A_l2_1 => (if 24 ≤ y1_l2_1 then ((f_X4_applies 30 S_l2_1 A_l2_1 0 (S_l2_1 19)).bind fun (S_5, A_6) => (some (S_5, A_6))) else if (y1_l2_1 < 0 ∨ 24 ≤ y1_l2_1.toNatClampNeg) then none else if (y1_l2_1 < 0 ∨ 24 ≤ y1_l2_1.toNatClampNeg) then none else ((f_X4_appliesAll_l2_1  k_l2_1) (y1_l2_1 + 1) S_l2_1 (va_up (va_up A_l2_1 20 (upd (A_l2_1 20) y1_l2_1.toNatClampNeg 0)) 21 (upd (A_l2_1 21) y1_l2_1.toNatClampNeg 0))))
def f_X4_appliesAll (S : Nat → Int32) (A : Nat → Nat → Int32) : Option ((Nat → Int32) × (Nat → Nat → Int32)) := (f_X4_appliesAll_l2_1  4096 0 S A)
abbrev rm_X4_appliesAll : Room := { frames := 37, cells := 0, slots := 0, locals := 2023 }
set_option maxHeartbeats 4000000 in
theorem ct_X4_appliesAll (Ev : rb_E) (h : AH) (n : Nat) (o : Nat) (a : Nat → Nat) (S : Nat → Int32) (A : Nat → Nat → Int32)  (rS : Nat → Int32) (rA : Nat → Nat → Int32) (hM : MD Ev h o a S A) (hf : f_X4_appliesAll S A = some (rS, rA)) : Ct Ev yX4_appliesAll (ws_ yX4_appliesAll cX4_appliesAll 2 none) rm_X4_appliesAll [.ref o] h n (pMv Ev o a h n none rS rA) := by
  refine Ct.of rfl (Nat.le_of_ble_eq_true rfl) fun X C hnm => ?_
  have C : Cx Ev X RX4 cX4_appliesAll 2 none [] := C
  show Wa Ev X rm_X4_appliesAll 2 h n 0 0 (rb_MQ Ev X rm_X4_appliesAll (pMv Ev o a h n none rS rA)) 0 [(0, .ref o)] []
  have hF : mdFr h h o a := mdFr.rf
  rw [f_X4_appliesAll] at hf
  refine rb_iconst (v := 0) C dX4_appliesAll_0 rfl ?_
  refine rb_istore_n (lv' := [(1, .int 0), (0, .ref o)]) C dX4_appliesAll_1 rfl (by decide) rfl ?_
  have L_l2_1 : ∀ (k_l2_1 : Nat) (y1_l2_1 : Int32) (S_l2_1 : Nat → Int32) (A_l2_1 : Nat → Nat → Int32) (h_l2_1 : AH), MD Ev h_l2_1 o a S_l2_1 A_l2_1 → mdFr h h_l2_1 o a → f_X4_appliesAll_l2_1  k_l2_1 y1_l2_1 S_l2_1 A_l2_1 = some (rS, rA) → Wa Ev X rm_X4_appliesAll 2 h_l2_1 n 0 0 (rb_MQ Ev X rm_X4_appliesAll (pMv Ev o a h n none rS rA)) 2 [(0, .ref o), (1, .int y1_l2_1)] [] := by
    intro k_l2_1
    induction k_l2_1 with
    | zero => intro y1_l2_1 S_l2_1 A_l2_1 h_l2_1 hM hF hf; cases hf
    | succ k_l2_1 ih_l2_1 =>
      intro y1_l2_1 S_l2_1 A_l2_1 h_l2_1 hM hF hf
      rw [f_X4_appliesAll_l2_1] at hf
      refine rb_iload_n C dX4_appliesAll_2 rfl 1 rfl ?_
      refine rb_bipush (v := 24) C dX4_appliesAll_3 rfl ?_
      refine rb_icmp_ge (tgt := 28) C dX4_appliesAll_5 (by decide) (fun c_2 => ?_) (fun c_2 => ?_)
      · have hf := (if_pos c_2).symm.trans hf
        refine rb_aload_n C dX4_appliesAll_28 rfl 0 rfl ?_
        refine rb_iconst (v := 0) C dX4_appliesAll_29 rfl ?_
        refine rb_aload_n C dX4_appliesAll_30 rfl 0 rfl ?_
        refine rb_get (v := .int (S_l2_1 19)) C fl_X4_161_X4 (Or.inl hM.1) rfl dX4_appliesAll_31 ?_
        obtain ⟨⟨S_5, A_6⟩, e_4, hf⟩ := rb_bd hf
        refine rb_zVMv C mi_X4_applies sv_X4_195 (IsC.of (Or.inl hM.1) ck_X4) (ct_X4_applies Ev h_l2_1 n 30 o a S_l2_1 A_l2_1 0 (S_l2_1 19) _ _ hM e_4) (rest := []) rfl rfl (Nat.le_of_ble_eq_true rfl) ⟨Nat.le_of_ble_eq_true rfl, Nat.le_of_ble_eq_true rfl⟩ ⟨Nat.zero_le _, Nat.zero_le _⟩ dX4_appliesAll_34 (fun h_7 hM hF1 => ?_)
        have hF := hF.tr hF1
        cases hf
        exact rb_vret C rfl (Nat.zero_le _) (Nat.zero_le _) dX4_appliesAll_37 ⟨rfl, rfl, hM, hF⟩
      · have hf := (if_neg c_2).symm.trans hf
        refine rb_aload_n C dX4_appliesAll_8 rfl 0 rfl ?_
        refine rb_get (v := .ref (a 20)) C fl_X4_39_X4 (Or.inl hM.1) rfl dX4_appliesAll_9 ?_
        refine rb_iload_n C dX4_appliesAll_12 rfl 1 rfl ?_
        refine rb_iconst (v := 0) C dX4_appliesAll_13 rfl ?_
        by_cases c_g : (y1_l2_1 < 0 ∨ 24 ≤ y1_l2_1.toNatClampNeg)
        · exact absurd ((if_pos c_g).symm.trans hf) (fun z => by cases z)
        have hf := (if_neg c_g).symm.trans hf
        refine rb_iast (f := (A_l2_1 20)) C (hM.2.1 20 rfl) (rb_nN c_g) dX4_appliesAll_14 (fun h_9 e1 e2 => ?_)
        have hM : MD Ev h_9 o a S_l2_1 (va_up A_l2_1 20 (upd (A_l2_1 20) y1_l2_1.toNatClampNeg 0)) := hM.ast 20 rfl e1 e2
        have hF := hF.ast 20 rfl e2
        refine rb_aload_n C dX4_appliesAll_15 rfl 0 rfl ?_
        refine rb_get (v := .ref (a 21)) C fl_X4_42_X4 (Or.inl hM.1) rfl dX4_appliesAll_16 ?_
        refine rb_iload_n C dX4_appliesAll_19 rfl 1 rfl ?_
        refine rb_iconst (v := 0) C dX4_appliesAll_20 rfl ?_
        by_cases c_g : (y1_l2_1 < 0 ∨ 24 ≤ y1_l2_1.toNatClampNeg)
        · exact absurd ((if_pos c_g).symm.trans hf) (fun z => by cases z)
        have hf := (if_neg c_g).symm.trans hf
        refine rb_iast (f := (A_l2_1 21)) C (hM.2.1 21 rfl) (rb_nN c_g) dX4_appliesAll_21 (fun h_10 e1 e2 => ?_)
        have hM : MD Ev h_10 o a S_l2_1 (va_up (va_up A_l2_1 20 (upd (A_l2_1 20) y1_l2_1.toNatClampNeg 0)) 21 (upd (A_l2_1 21) y1_l2_1.toNatClampNeg 0)) := hM.ast 21 rfl e1 e2
        have hF := hF.ast 21 rfl e2
        refine rb_iinc (v := (y1_l2_1 + 1)) (lv' := [(1, .int (y1_l2_1 + 1)), (0, .ref o)]) C dX4_appliesAll_22 (k := 1) rfl rfl (by decide) rfl ?_
        refine rb_goto (tgt := 2) C dX4_appliesAll_25 (by decide) ?_
        refine rb_sub [1, 0] rfl ?_
        exact ih_l2_1 (y1_l2_1 + 1) S_l2_1 (va_up (va_up A_l2_1 20 (upd (A_l2_1 20) y1_l2_1.toNatClampNeg 0)) 21 (upd (A_l2_1 21) y1_l2_1.toNatClampNeg 0)) h_10 hM hF hf
  refine rb_sub [1, 0] rfl ?_
  exact L_l2_1 4096 0 S A h hM hF hf
def f_X4_remembers_l6_7  : Nat → Int32 → (Nat → Int32) → (Nat → Nat → Int32) → Option ((Nat → Int32) × (Nat → Nat → Int32))
  | 0, _, _, _ => none
  | k_l6_7 + 1, y1_l6_7, S_l6_7, A_l6_7 => (if 24 ≤ y1_l6_7 then (some (S_l6_7, A_l6_7)) else if (y1_l6_7 < 0 ∨ 24 ≤ y1_l6_7.toNatClampNeg) then none else if (y1_l6_7 < 0 ∨ 24 ≤ y1_l6_7.toNatClampNeg) then none else if (y1_l6_7 < 0 ∨ 24 ≤ y1_l6_7.toNatClampNeg) then none else if (y1_l6_7 < 0 ∨ 24 ≤ y1_l6_7.toNatClampNeg) then none else ((f_X4_remembers_l6_7  k_l6_7) (y1_l6_7 + 1) S_l6_7 (va_up (va_up A_l6_7 22 (upd (A_l6_7 22) y1_l6_7.toNatClampNeg ((A_l6_7 20) y1_l6_7.toNatClampNeg))) 23 (upd (A_l6_7 23) y1_l6_7.toNatClampNeg ((A_l6_7 21) y1_l6_7.toNatClampNeg)))))
def f_X4_remembers (S : Nat → Int32) (A : Nat → Nat → Int32) : Option ((Nat → Int32) × (Nat → Nat → Int32)) := ((f_X4_appliesAll S A ).bind fun (S_3, A_4) => (f_X4_remembers_l6_7  4096 0 S_3 A_4))
abbrev rm_X4_remembers : Room := { frames := 38, cells := 0, slots := 0, locals := 2044 }
set_option maxHeartbeats 4000000 in
theorem ct_X4_remembers (Ev : rb_E) (h : AH) (n : Nat) (o : Nat) (a : Nat → Nat) (S : Nat → Int32) (A : Nat → Nat → Int32)  (rS : Nat → Int32) (rA : Nat → Nat → Int32) (hM : MD Ev h o a S A) (hf : f_X4_remembers S A = some (rS, rA)) : Ct Ev yX4_remembers (ws_ yX4_remembers cX4_remembers 2 none) rm_X4_remembers [.ref o] h n (pMv Ev o a h n none rS rA) := by
  refine Ct.of rfl (Nat.le_of_ble_eq_true rfl) fun X C hnm => ?_
  have C : Cx Ev X RX4 cX4_remembers 2 none [] := C
  show Wa Ev X rm_X4_remembers 2 h n 0 0 (rb_MQ Ev X rm_X4_remembers (pMv Ev o a h n none rS rA)) 0 [(0, .ref o)] []
  have hF : mdFr h h o a := mdFr.rf
  rw [f_X4_remembers] at hf
  refine rb_aload_n C dX4_remembers_0 rfl 0 rfl ?_
  obtain ⟨⟨S_3, A_4⟩, e_2, hf⟩ := rb_bd hf
  refine rb_zVMv C mi_X4_appliesAll sv_X4_199 (IsC.of (Or.inl hM.1) ck_X4) (ct_X4_appliesAll Ev h n o a S A  _ _ hM e_2) (rest := []) rfl rfl (Nat.le_of_ble_eq_true rfl) ⟨Nat.le_of_ble_eq_true rfl, Nat.le_of_ble_eq_true rfl⟩ ⟨Nat.zero_le _, Nat.zero_le _⟩ dX4_remembers_1 (fun h_5 hM hF1 => ?_)
  have hF := hF.tr hF1
  refine rb_iconst (v := 0) C dX4_remembers_4 rfl ?_
  refine rb_istore_n (lv' := [(1, .int 0), (0, .ref o)]) C dX4_remembers_5 rfl (by decide) rfl ?_
  have L_l6_7 : ∀ (k_l6_7 : Nat) (y1_l6_7 : Int32) (S_l6_7 : Nat → Int32) (A_l6_7 : Nat → Nat → Int32) (h_l6_7 : AH), MD Ev h_l6_7 o a S_l6_7 A_l6_7 → mdFr h h_l6_7 o a → f_X4_remembers_l6_7  k_l6_7 y1_l6_7 S_l6_7 A_l6_7 = some (rS, rA) → Wa Ev X rm_X4_remembers 2 h_l6_7 n 0 0 (rb_MQ Ev X rm_X4_remembers (pMv Ev o a h n none rS rA)) 6 [(0, .ref o), (1, .int y1_l6_7)] [] := by
    intro k_l6_7
    induction k_l6_7 with
    | zero => intro y1_l6_7 S_l6_7 A_l6_7 h_l6_7 hM hF hf; cases hf
    | succ k_l6_7 ih_l6_7 =>
      intro y1_l6_7 S_l6_7 A_l6_7 h_l6_7 hM hF hf
      rw [f_X4_remembers_l6_7] at hf
      refine rb_iload_n C dX4_remembers_6 rfl 1 rfl ?_
      refine rb_bipush (v := 24) C dX4_remembers_7 rfl ?_
      refine rb_icmp_ge (tgt := 42) C dX4_remembers_9 (by decide) (fun c_8 => ?_) (fun c_8 => ?_)
      · have hf := (if_pos c_8).symm.trans hf
        cases hf
        exact rb_vret C rfl (Nat.zero_le _) (Nat.zero_le _) dX4_remembers_42 ⟨rfl, rfl, hM, hF⟩
      · have hf := (if_neg c_8).symm.trans hf
        refine rb_aload_n C dX4_remembers_12 rfl 0 rfl ?_
        refine rb_get (v := .ref (a 22)) C fl_X4_45_X4 (Or.inl hM.1) rfl dX4_remembers_13 ?_
        refine rb_iload_n C dX4_remembers_16 rfl 1 rfl ?_
        refine rb_aload_n C dX4_remembers_17 rfl 0 rfl ?_
        refine rb_get (v := .ref (a 20)) C fl_X4_39_X4 (Or.inl hM.1) rfl dX4_remembers_18 ?_
        refine rb_iload_n C dX4_remembers_21 rfl 1 rfl ?_
        by_cases c_g : (y1_l6_7 < 0 ∨ 24 ≤ y1_l6_7.toNatClampNeg)
        · exact absurd ((if_pos c_g).symm.trans hf) (fun z => by cases z)
        have hf := (if_neg c_g).symm.trans hf
        refine rb_iald (f := (A_l6_7 20)) C (Or.inl (hM.2.1 20 rfl)) (rb_nN c_g) dX4_remembers_22 ?_
        by_cases c_g : (y1_l6_7 < 0 ∨ 24 ≤ y1_l6_7.toNatClampNeg)
        · exact absurd ((if_pos c_g).symm.trans hf) (fun z => by cases z)
        have hf := (if_neg c_g).symm.trans hf
        refine rb_iast (f := (A_l6_7 22)) C (hM.2.1 22 rfl) (rb_nN c_g) dX4_remembers_23 (fun h_9 e1 e2 => ?_)
        have hM : MD Ev h_9 o a S_l6_7 (va_up A_l6_7 22 (upd (A_l6_7 22) y1_l6_7.toNatClampNeg ((A_l6_7 20) y1_l6_7.toNatClampNeg))) := hM.ast 22 rfl e1 e2
        have hF := hF.ast 22 rfl e2
        refine rb_aload_n C dX4_remembers_24 rfl 0 rfl ?_
        refine rb_get (v := .ref (a 23)) C fl_X4_48_X4 (Or.inl hM.1) rfl dX4_remembers_25 ?_
        refine rb_iload_n C dX4_remembers_28 rfl 1 rfl ?_
        refine rb_aload_n C dX4_remembers_29 rfl 0 rfl ?_
        refine rb_get (v := .ref (a 21)) C fl_X4_42_X4 (Or.inl hM.1) rfl dX4_remembers_30 ?_
        refine rb_iload_n C dX4_remembers_33 rfl 1 rfl ?_
        by_cases c_g : (y1_l6_7 < 0 ∨ 24 ≤ y1_l6_7.toNatClampNeg)
        · exact absurd ((if_pos c_g).symm.trans hf) (fun z => by cases z)
        have hf := (if_neg c_g).symm.trans hf
        refine rb_iald (f := (A_l6_7 21)) C (Or.inl (hM.2.1 21 rfl)) (rb_nN c_g) dX4_remembers_34 ?_
        by_cases c_g : (y1_l6_7 < 0 ∨ 24 ≤ y1_l6_7.toNatClampNeg)
        · exact absurd ((if_pos c_g).symm.trans hf) (fun z => by cases z)
        have hf := (if_neg c_g).symm.trans hf
        refine rb_iast (f := (A_l6_7 23)) C (hM.2.1 23 rfl) (rb_nN c_g) dX4_remembers_35 (fun h_10 e1 e2 => ?_)
        have hM : MD Ev h_10 o a S_l6_7 (va_up (va_up A_l6_7 22 (upd (A_l6_7 22) y1_l6_7.toNatClampNeg ((A_l6_7 20) y1_l6_7.toNatClampNeg))) 23 (upd (A_l6_7 23) y1_l6_7.toNatClampNeg ((A_l6_7 21) y1_l6_7.toNatClampNeg))) := hM.ast 23 rfl e1 e2
        have hF := hF.ast 23 rfl e2
        refine rb_iinc (v := (y1_l6_7 + 1)) (lv' := [(1, .int (y1_l6_7 + 1)), (0, .ref o)]) C dX4_remembers_36 (k := 1) rfl rfl (by decide) rfl ?_
        refine rb_goto (tgt := 6) C dX4_remembers_39 (by decide) ?_
        refine rb_sub [1, 0] rfl ?_
        exact ih_l6_7 (y1_l6_7 + 1) S_l6_7 (va_up (va_up A_l6_7 22 (upd (A_l6_7 22) y1_l6_7.toNatClampNeg ((A_l6_7 20) y1_l6_7.toNatClampNeg))) 23 (upd (A_l6_7 23) y1_l6_7.toNatClampNeg ((A_l6_7 21) y1_l6_7.toNatClampNeg))) h_10 hM hF hf
  refine rb_sub [1, 0] rfl ?_
  exact L_l6_7 4096 0 S_3 A_4 h_5 hM hF hf
def f_X4_takes_l12_2  : Nat → Int32 → (Nat → Int32) → (Nat → Nat → Int32) → Option ((Nat → Int32) × (Nat → Nat → Int32))
  | 0, _, _, _ => none
  | k_l12_2 + 1, y2_l12_2, S_l12_2, A_l12_2 => (if (S_l12_2 19) ≤ y2_l12_2 then (some (S_l12_2, A_l12_2)) else if ((y2_l12_2 + 1) < 0 ∨ 24 ≤ (y2_l12_2 + 1).toNatClampNeg) then none else if (y2_l12_2 < 0 ∨ 24 ≤ y2_l12_2.toNatClampNeg) then none else if ((y2_l12_2 + 1) < 0 ∨ 24 ≤ (y2_l12_2 + 1).toNatClampNeg) then none else if (y2_l12_2 < 0 ∨ 24 ≤ y2_l12_2.toNatClampNeg) then none else ((f_X4_takes_l12_2  k_l12_2) (y2_l12_2 + 1) S_l12_2 (va_up (va_up A_l12_2 17 (upd (A_l12_2 17) y2_l12_2.toNatClampNeg ((A_l12_2 17) (y2_l12_2 + 1).toNatClampNeg))) 18 (upd (A_l12_2 18) y2_l12_2.toNatClampNeg ((A_l12_2 18) (y2_l12_2 + 1).toNatClampNeg)))))
def f_X4_takes (S : Nat → Int32) (A : Nat → Nat → Int32) (x1 : Int32) : Option ((Nat → Int32) × (Nat → Nat → Int32)) := (f_X4_takes_l12_2  4096 x1 (upd S 19 ((S 19) - 1)) A)
abbrev rm_X4_takes : Room := { frames := 0, cells := 0, slots := 0, locals := 0 }
set_option maxHeartbeats 4000000 in
theorem ct_X4_takes (Ev : rb_E) (h : AH) (n : Nat) (o : Nat) (a : Nat → Nat) (S : Nat → Int32) (A : Nat → Nat → Int32) (x1 : Int32) (rS : Nat → Int32) (rA : Nat → Nat → Int32) (hM : MD Ev h o a S A) (hf : f_X4_takes S A x1 = some (rS, rA)) : Ct Ev yX4_takes (ws_ yX4_takes cX4_takes 3 none) rm_X4_takes [.ref o, .int x1] h n (pMv Ev o a h n none rS rA) := by
  refine Ct.of rfl (Nat.le_of_ble_eq_true rfl) fun X C hnm => ?_
  have C : Cx Ev X RX4 cX4_takes 3 none [] := C
  show Wa Ev X rm_X4_takes 3 h n 0 0 (rb_MQ Ev X rm_X4_takes (pMv Ev o a h n none rS rA)) 0 [(0, .ref o), (1, .int x1)] []
  have hF : mdFr h h o a := mdFr.rf
  rw [f_X4_takes] at hf
  refine rb_aload_n C dX4_takes_0 rfl 0 rfl ?_
  refine rb_dup C dX4_takes_1 rfl ?_
  refine rb_get (v := .int (S 19)) C fl_X4_161_X4 (Or.inl hM.1) rfl dX4_takes_2 ?_
  refine rb_iconst (v := 1) C dX4_takes_5 rfl ?_
  refine rb_isub C dX4_takes_6 ?_
  refine rb_put (v := .int ((S 19) - 1)) C fw_X4_161_X4 hM.1 rfl rfl (Nat.le_of_ble_eq_true rfl) dX4_takes_7 (fun h_1 e1 e2 => ?_)
  have hM : MD Ev h_1 o a (upd S 19 ((S 19) - 1)) A := hM.put e1 e2 rfl
  have hF := hF.put e2
  refine rb_iload_n C dX4_takes_10 rfl 1 rfl ?_
  refine rb_istore_n (lv' := [(2, .int x1), (0, .ref o), (1, .int x1)]) C dX4_takes_11 rfl (by decide) rfl ?_
  have L_l12_2 : ∀ (k_l12_2 : Nat) (y2_l12_2 : Int32) (S_l12_2 : Nat → Int32) (A_l12_2 : Nat → Nat → Int32) (h_l12_2 : AH), MD Ev h_l12_2 o a S_l12_2 A_l12_2 → mdFr h h_l12_2 o a → f_X4_takes_l12_2  k_l12_2 y2_l12_2 S_l12_2 A_l12_2 = some (rS, rA) → Wa Ev X rm_X4_takes 3 h_l12_2 n 0 0 (rb_MQ Ev X rm_X4_takes (pMv Ev o a h n none rS rA)) 12 [(0, .ref o), (1, .int x1), (2, .int y2_l12_2)] [] := by
    intro k_l12_2
    induction k_l12_2 with
    | zero => intro y2_l12_2 S_l12_2 A_l12_2 h_l12_2 hM hF hf; cases hf
    | succ k_l12_2 ih_l12_2 =>
      intro y2_l12_2 S_l12_2 A_l12_2 h_l12_2 hM hF hf
      rw [f_X4_takes_l12_2] at hf
      refine rb_iload_n C dX4_takes_12 rfl 2 rfl ?_
      refine rb_aload_n C dX4_takes_13 rfl 0 rfl ?_
      refine rb_get (v := .int (S_l12_2 19)) C fl_X4_161_X4 (Or.inl hM.1) rfl dX4_takes_14 ?_
      refine rb_icmp_ge (tgt := 54) C dX4_takes_17 (by decide) (fun c_3 => ?_) (fun c_3 => ?_)
      · have hf := (if_pos c_3).symm.trans hf
        cases hf
        exact rb_vret C rfl (Nat.zero_le _) (Nat.zero_le _) dX4_takes_54 ⟨rfl, rfl, hM, hF⟩
      · have hf := (if_neg c_3).symm.trans hf
        refine rb_aload_n C dX4_takes_20 rfl 0 rfl ?_
        refine rb_get (v := .ref (a 17)) C fl_X4_33_X4 (Or.inl hM.1) rfl dX4_takes_21 ?_
        refine rb_iload_n C dX4_takes_24 rfl 2 rfl ?_
        refine rb_aload_n C dX4_takes_25 rfl 0 rfl ?_
        refine rb_get (v := .ref (a 17)) C fl_X4_33_X4 (Or.inl hM.1) rfl dX4_takes_26 ?_
        refine rb_iload_n C dX4_takes_29 rfl 2 rfl ?_
        refine rb_iconst (v := 1) C dX4_takes_30 rfl ?_
        refine rb_iadd C dX4_takes_31 ?_
        by_cases c_g : ((y2_l12_2 + 1) < 0 ∨ 24 ≤ (y2_l12_2 + 1).toNatClampNeg)
        · exact absurd ((if_pos c_g).symm.trans hf) (fun z => by cases z)
        have hf := (if_neg c_g).symm.trans hf
        refine rb_iald (f := (A_l12_2 17)) C (Or.inl (hM.2.1 17 rfl)) (rb_nN c_g) dX4_takes_32 ?_
        by_cases c_g : (y2_l12_2 < 0 ∨ 24 ≤ y2_l12_2.toNatClampNeg)
        · exact absurd ((if_pos c_g).symm.trans hf) (fun z => by cases z)
        have hf := (if_neg c_g).symm.trans hf
        refine rb_iast (f := (A_l12_2 17)) C (hM.2.1 17 rfl) (rb_nN c_g) dX4_takes_33 (fun h_4 e1 e2 => ?_)
        have hM : MD Ev h_4 o a S_l12_2 (va_up A_l12_2 17 (upd (A_l12_2 17) y2_l12_2.toNatClampNeg ((A_l12_2 17) (y2_l12_2 + 1).toNatClampNeg))) := hM.ast 17 rfl e1 e2
        have hF := hF.ast 17 rfl e2
        refine rb_aload_n C dX4_takes_34 rfl 0 rfl ?_
        refine rb_get (v := .ref (a 18)) C fl_X4_36_X4 (Or.inl hM.1) rfl dX4_takes_35 ?_
        refine rb_iload_n C dX4_takes_38 rfl 2 rfl ?_
        refine rb_aload_n C dX4_takes_39 rfl 0 rfl ?_
        refine rb_get (v := .ref (a 18)) C fl_X4_36_X4 (Or.inl hM.1) rfl dX4_takes_40 ?_
        refine rb_iload_n C dX4_takes_43 rfl 2 rfl ?_
        refine rb_iconst (v := 1) C dX4_takes_44 rfl ?_
        refine rb_iadd C dX4_takes_45 ?_
        by_cases c_g : ((y2_l12_2 + 1) < 0 ∨ 24 ≤ (y2_l12_2 + 1).toNatClampNeg)
        · exact absurd ((if_pos c_g).symm.trans hf) (fun z => by cases z)
        have hf := (if_neg c_g).symm.trans hf
        refine rb_iald (f := (A_l12_2 18)) C (Or.inl (hM.2.1 18 rfl)) (rb_nN c_g) dX4_takes_46 ?_
        by_cases c_g : (y2_l12_2 < 0 ∨ 24 ≤ y2_l12_2.toNatClampNeg)
        · exact absurd ((if_pos c_g).symm.trans hf) (fun z => by cases z)
        have hf := (if_neg c_g).symm.trans hf
        refine rb_iast (f := (A_l12_2 18)) C (hM.2.1 18 rfl) (rb_nN c_g) dX4_takes_47 (fun h_5 e1 e2 => ?_)
        have hM : MD Ev h_5 o a S_l12_2 (va_up (va_up A_l12_2 17 (upd (A_l12_2 17) y2_l12_2.toNatClampNeg ((A_l12_2 17) (y2_l12_2 + 1).toNatClampNeg))) 18 (upd (A_l12_2 18) y2_l12_2.toNatClampNeg ((A_l12_2 18) (y2_l12_2 + 1).toNatClampNeg))) := hM.ast 18 rfl e1 e2
        have hF := hF.ast 18 rfl e2
        refine rb_iinc (v := (y2_l12_2 + 1)) (lv' := [(2, .int (y2_l12_2 + 1)), (0, .ref o), (1, .int x1)]) C dX4_takes_48 (k := 2) rfl rfl (by decide) rfl ?_
        refine rb_goto (tgt := 12) C dX4_takes_51 (by decide) ?_
        refine rb_sub [1, 2, 0] rfl ?_
        exact ih_l12_2 (y2_l12_2 + 1) S_l12_2 (va_up (va_up A_l12_2 17 (upd (A_l12_2 17) y2_l12_2.toNatClampNeg ((A_l12_2 17) (y2_l12_2 + 1).toNatClampNeg))) 18 (upd (A_l12_2 18) y2_l12_2.toNatClampNeg ((A_l12_2 18) (y2_l12_2 + 1).toNatClampNeg))) h_5 hM hF hf
  refine rb_sub [1, 2, 0] rfl ?_
  exact L_l12_2 4096 x1 (upd S 19 ((S 19) - 1)) A h_1 hM hF hf
def f_X4_isSame_l6_7 (S_3 : Nat → Int32) (A_4 : Nat → Nat → Int32) : Nat → Int32 → Option (Int32 × (Nat → Int32) × (Nat → Nat → Int32))
  | 0, _ => none
  | k_l6_7 + 1, y1_l6_7 => (if 24 ≤ y1_l6_7 then (some (1, S_3, A_4)) else if (y1_l6_7 < 0 ∨ 24 ≤ y1_l6_7.toNatClampNeg) then none else if (y1_l6_7 < 0 ∨ 24 ≤ y1_l6_7.toNatClampNeg) then none else (if ((A_4 20) y1_l6_7.toNatClampNeg) = ((A_4 22) y1_l6_7.toNatClampNeg) then if (y1_l6_7 < 0 ∨ 24 ≤ y1_l6_7.toNatClampNeg) then none else if (y1_l6_7 < 0 ∨ 24 ≤ y1_l6_7.toNatClampNeg) then none else (if ((A_4 21) y1_l6_7.toNatClampNeg) = ((A_4 23) y1_l6_7.toNatClampNeg) then ((f_X4_isSame_l6_7 S_3 A_4 k_l6_7) (y1_l6_7 + 1)) else (some (0, S_3, A_4))) else (some (0, S_3, A_4))))
def f_X4_isSame (S : Nat → Int32) (A : Nat → Nat → Int32) : Option (Int32 × (Nat → Int32) × (Nat → Nat → Int32)) := ((f_X4_appliesAll S A ).bind fun (S_3, A_4) => (f_X4_isSame_l6_7 S_3 A_4 4096 0))
abbrev rm_X4_isSame : Room := { frames := 38, cells := 0, slots := 0, locals := 2044 }
set_option maxHeartbeats 4000000 in
theorem ct_X4_isSame (Ev : rb_E) (h : AH) (n : Nat) (o : Nat) (a : Nat → Nat) (S : Nat → Int32) (A : Nat → Nat → Int32)  (rv : Int32) (rS : Nat → Int32) (rA : Nat → Nat → Int32) (hM : MD Ev h o a S A) (hf : f_X4_isSame S A = some (rv, rS, rA)) : Ct Ev yX4_isSame (ws_ yX4_isSame cX4_isSame 2 (some .boolean)) rm_X4_isSame [.ref o] h n (pM Ev .boolean o a h n rv rS rA) := by
  refine Ct.of rfl (Nat.le_of_ble_eq_true rfl) fun X C hnm => ?_
  have C : Cx Ev X RX4 cX4_isSame 2 (some .boolean) [] := C
  show Wa Ev X rm_X4_isSame 2 h n 0 0 (rb_MQ Ev X rm_X4_isSame (pM Ev .boolean o a h n rv rS rA)) 0 [(0, .ref o)] []
  have hF : mdFr h h o a := mdFr.rf
  rw [f_X4_isSame] at hf
  refine rb_aload_n C dX4_isSame_0 rfl 0 rfl ?_
  obtain ⟨⟨S_3, A_4⟩, e_2, hf⟩ := rb_bd hf
  refine rb_zVMv C mi_X4_appliesAll sv_X4_199 (IsC.of (Or.inl hM.1) ck_X4) (ct_X4_appliesAll Ev h n o a S A  _ _ hM e_2) (rest := []) rfl rfl (Nat.le_of_ble_eq_true rfl) ⟨Nat.le_of_ble_eq_true rfl, Nat.le_of_ble_eq_true rfl⟩ ⟨Nat.zero_le _, Nat.zero_le _⟩ dX4_isSame_1 (fun h_5 hM hF1 => ?_)
  have hF := hF.tr hF1
  refine rb_iconst (v := 0) C dX4_isSame_4 rfl ?_
  refine rb_istore_n (lv' := [(1, .int 0), (0, .ref o)]) C dX4_isSame_5 rfl (by decide) rfl ?_
  have L_l6_7 : ∀ (k_l6_7 : Nat) (y1_l6_7 : Int32), f_X4_isSame_l6_7 S_3 A_4 k_l6_7 y1_l6_7 = some (rv, rS, rA) → Wa Ev X rm_X4_isSame 2 h_5 n 0 0 (rb_MQ Ev X rm_X4_isSame (pM Ev .boolean o a h n rv rS rA)) 6 [(0, .ref o), (1, .int y1_l6_7)] [] := by
    intro k_l6_7
    induction k_l6_7 with
    | zero => intro y1_l6_7 hf; cases hf
    | succ k_l6_7 ih_l6_7 =>
      intro y1_l6_7 hf
      rw [f_X4_isSame_l6_7] at hf
      refine rb_iload_n C dX4_isSame_6 rfl 1 rfl ?_
      refine rb_bipush (v := 24) C dX4_isSame_7 rfl ?_
      refine rb_icmp_ge (tgt := 50) C dX4_isSame_9 (by decide) (fun c_8 => ?_) (fun c_8 => ?_)
      · have hf := (if_pos c_8).symm.trans hf
        refine rb_iconst (v := 1) C dX4_isSame_50 rfl ?_
        cases hf
        exact rb_iret C rfl rfl (Nat.zero_le _) (Nat.zero_le _) dX4_isSame_51 ⟨rfl, rfl, hM, hF, rfl⟩
      · have hf := (if_neg c_8).symm.trans hf
        refine rb_aload_n C dX4_isSame_12 rfl 0 rfl ?_
        refine rb_get (v := .ref (a 20)) C fl_X4_39_X4 (Or.inl hM.1) rfl dX4_isSame_13 ?_
        refine rb_iload_n C dX4_isSame_16 rfl 1 rfl ?_
        by_cases c_g : (y1_l6_7 < 0 ∨ 24 ≤ y1_l6_7.toNatClampNeg)
        · exact absurd ((if_pos c_g).symm.trans hf) (fun z => by cases z)
        have hf := (if_neg c_g).symm.trans hf
        refine rb_iald (f := (A_4 20)) C (Or.inl (hM.2.1 20 rfl)) (rb_nN c_g) dX4_isSame_17 ?_
        refine rb_aload_n C dX4_isSame_18 rfl 0 rfl ?_
        refine rb_get (v := .ref (a 22)) C fl_X4_45_X4 (Or.inl hM.1) rfl dX4_isSame_19 ?_
        refine rb_iload_n C dX4_isSame_22 rfl 1 rfl ?_
        by_cases c_g : (y1_l6_7 < 0 ∨ 24 ≤ y1_l6_7.toNatClampNeg)
        · exact absurd ((if_pos c_g).symm.trans hf) (fun z => by cases z)
        have hf := (if_neg c_g).symm.trans hf
        refine rb_iald (f := (A_4 22)) C (Or.inl (hM.2.1 22 rfl)) (rb_nN c_g) dX4_isSame_23 ?_
        refine rb_icmp_ne (tgt := 42) C dX4_isSame_24 (by decide) (fun c_9 => ?_) (fun c_9 => ?_)
        · have hf := (if_neg c_9).symm.trans hf
          refine rb_iconst (v := 0) C dX4_isSame_42 rfl ?_
          cases hf
          exact rb_iret C rfl rfl (Nat.zero_le _) (Nat.zero_le _) dX4_isSame_43 ⟨rfl, rfl, hM, hF, rfl⟩
        · have hf := (if_pos c_9).symm.trans hf
          refine rb_aload_n C dX4_isSame_27 rfl 0 rfl ?_
          refine rb_get (v := .ref (a 21)) C fl_X4_42_X4 (Or.inl hM.1) rfl dX4_isSame_28 ?_
          refine rb_iload_n C dX4_isSame_31 rfl 1 rfl ?_
          by_cases c_g : (y1_l6_7 < 0 ∨ 24 ≤ y1_l6_7.toNatClampNeg)
          · exact absurd ((if_pos c_g).symm.trans hf) (fun z => by cases z)
          have hf := (if_neg c_g).symm.trans hf
          refine rb_iald (f := (A_4 21)) C (Or.inl (hM.2.1 21 rfl)) (rb_nN c_g) dX4_isSame_32 ?_
          refine rb_aload_n C dX4_isSame_33 rfl 0 rfl ?_
          refine rb_get (v := .ref (a 23)) C fl_X4_48_X4 (Or.inl hM.1) rfl dX4_isSame_34 ?_
          refine rb_iload_n C dX4_isSame_37 rfl 1 rfl ?_
          by_cases c_g : (y1_l6_7 < 0 ∨ 24 ≤ y1_l6_7.toNatClampNeg)
          · exact absurd ((if_pos c_g).symm.trans hf) (fun z => by cases z)
          have hf := (if_neg c_g).symm.trans hf
          refine rb_iald (f := (A_4 23)) C (Or.inl (hM.2.1 23 rfl)) (rb_nN c_g) dX4_isSame_38 ?_
          refine rb_icmp_eq (tgt := 44) C dX4_isSame_39 (by decide) (fun c_10 => ?_) (fun c_10 => ?_)
          · have hf := (if_pos c_10).symm.trans hf
            refine rb_iinc (v := (y1_l6_7 + 1)) (lv' := [(1, .int (y1_l6_7 + 1)), (0, .ref o)]) C dX4_isSame_44 (k := 1) rfl rfl (by decide) rfl ?_
            refine rb_goto (tgt := 6) C dX4_isSame_47 (by decide) ?_
            refine rb_sub [1, 0] rfl ?_
            exact ih_l6_7 (y1_l6_7 + 1) hf
          · have hf := (if_neg c_10).symm.trans hf
            refine rb_iconst (v := 0) C dX4_isSame_42 rfl ?_
            cases hf
            exact rb_iret C rfl rfl (Nat.zero_le _) (Nat.zero_le _) dX4_isSame_43 ⟨rfl, rfl, hM, hF, rfl⟩
  refine rb_sub [1, 0] rfl ?_
  exact L_l6_7 4096 0 hf
def f_X4_inserts_l6_1 (x1 : Int32) (x2 : Int32) (x3 : Int32) : Nat → Int32 → (Nat → Int32) → (Nat → Nat → Int32) → Option ((Nat → Int32) × (Nat → Nat → Int32))
  | 0, _, _, _ => none
  | k_l6_1 + 1, y4_l6_1, S_l6_1, A_l6_1 => (if y4_l6_1 ≤ x1 then if (x1 < 0 ∨ 24 ≤ x1.toNatClampNeg) then none else if (x1 < 0 ∨ 24 ≤ x1.toNatClampNeg) then none else (some ((upd S_l6_1 19 ((S_l6_1 19) + 1)), (va_up (va_up A_l6_1 17 (upd (A_l6_1 17) x1.toNatClampNeg x2)) 18 (upd (A_l6_1 18) x1.toNatClampNeg x3)))) else if ((y4_l6_1 - 1) < 0 ∨ 24 ≤ (y4_l6_1 - 1).toNatClampNeg) then none else if (y4_l6_1 < 0 ∨ 24 ≤ y4_l6_1.toNatClampNeg) then none else if ((y4_l6_1 - 1) < 0 ∨ 24 ≤ (y4_l6_1 - 1).toNatClampNeg) then none else if (y4_l6_1 < 0 ∨ 24 ≤ y4_l6_1.toNatClampNeg) then none else ((f_X4_inserts_l6_1 x1 x2 x3 k_l6_1) (y4_l6_1 + (-1)) S_l6_1 (va_up (va_up A_l6_1 17 (upd (A_l6_1 17) y4_l6_1.toNatClampNeg ((A_l6_1 17) (y4_l6_1 - 1).toNatClampNeg))) 18 (upd (A_l6_1 18) y4_l6_1.toNatClampNeg ((A_l6_1 18) (y4_l6_1 - 1).toNatClampNeg)))))
def f_X4_inserts (S : Nat → Int32) (A : Nat → Nat → Int32) (x1 : Int32) (x2 : Int32) (x3 : Int32) : Option ((Nat → Int32) × (Nat → Nat → Int32)) := (f_X4_inserts_l6_1 x1 x2 x3 4096 (S 19) S A)
abbrev rm_X4_inserts : Room := { frames := 0, cells := 0, slots := 0, locals := 0 }
set_option maxHeartbeats 4000000 in
theorem ct_X4_inserts (Ev : rb_E) (h : AH) (n : Nat) (o : Nat) (a : Nat → Nat) (S : Nat → Int32) (A : Nat → Nat → Int32) (x1 : Int32) (x2 : Int32) (x3 : Int32) (rS : Nat → Int32) (rA : Nat → Nat → Int32) (hM : MD Ev h o a S A) (hf : f_X4_inserts S A x1 x2 x3 = some (rS, rA)) : Ct Ev yX4_inserts (ws_ yX4_inserts cX4_inserts 5 none) rm_X4_inserts [.ref o, .int x1, .int x2, .int x3] h n (pMv Ev o a h n none rS rA) := by
  refine Ct.of rfl (Nat.le_of_ble_eq_true rfl) fun X C hnm => ?_
  have C : Cx Ev X RX4 cX4_inserts 5 none [] := C
  show Wa Ev X rm_X4_inserts 5 h n 0 0 (rb_MQ Ev X rm_X4_inserts (pMv Ev o a h n none rS rA)) 0 [(0, .ref o), (1, .int x1), (2, .int x2), (3, .int x3)] []
  have hF : mdFr h h o a := mdFr.rf
  rw [f_X4_inserts] at hf
  refine rb_aload_n C dX4_inserts_0 rfl 0 rfl ?_
  refine rb_get (v := .int (S 19)) C fl_X4_161_X4 (Or.inl hM.1) rfl dX4_inserts_1 ?_
  refine rb_istore (lv' := [(4, .int (S 19)), (0, .ref o), (1, .int x1), (2, .int x2), (3, .int x3)]) C dX4_inserts_4 (by decide) rfl ?_
  have L_l6_1 : ∀ (k_l6_1 : Nat) (y4_l6_1 : Int32) (S_l6_1 : Nat → Int32) (A_l6_1 : Nat → Nat → Int32) (h_l6_1 : AH), MD Ev h_l6_1 o a S_l6_1 A_l6_1 → mdFr h h_l6_1 o a → f_X4_inserts_l6_1 x1 x2 x3 k_l6_1 y4_l6_1 S_l6_1 A_l6_1 = some (rS, rA) → Wa Ev X rm_X4_inserts 5 h_l6_1 n 0 0 (rb_MQ Ev X rm_X4_inserts (pMv Ev o a h n none rS rA)) 6 [(0, .ref o), (1, .int x1), (2, .int x2), (3, .int x3), (4, .int y4_l6_1)] [] := by
    intro k_l6_1
    induction k_l6_1 with
    | zero => intro y4_l6_1 S_l6_1 A_l6_1 h_l6_1 hM hF hf; cases hf
    | succ k_l6_1 ih_l6_1 =>
      intro y4_l6_1 S_l6_1 A_l6_1 h_l6_1 hM hF hf
      rw [f_X4_inserts_l6_1] at hf
      refine rb_iload C dX4_inserts_6 4 rfl ?_
      refine rb_iload_n C dX4_inserts_8 rfl 1 rfl ?_
      refine rb_icmp_le (tgt := 50) C dX4_inserts_9 (by decide) (fun c_2 => ?_) (fun c_2 => ?_)
      · have hf := (if_pos c_2).symm.trans hf
        refine rb_aload_n C dX4_inserts_50 rfl 0 rfl ?_
        refine rb_get (v := .ref (a 17)) C fl_X4_33_X4 (Or.inl hM.1) rfl dX4_inserts_51 ?_
        refine rb_iload_n C dX4_inserts_54 rfl 1 rfl ?_
        refine rb_iload_n C dX4_inserts_55 rfl 2 rfl ?_
        by_cases c_g : (x1 < 0 ∨ 24 ≤ x1.toNatClampNeg)
        · exact absurd ((if_pos c_g).symm.trans hf) (fun z => by cases z)
        have hf := (if_neg c_g).symm.trans hf
        refine rb_iast (f := (A_l6_1 17)) C (hM.2.1 17 rfl) (rb_nN c_g) dX4_inserts_56 (fun h_3 e1 e2 => ?_)
        have hM : MD Ev h_3 o a S_l6_1 (va_up A_l6_1 17 (upd (A_l6_1 17) x1.toNatClampNeg x2)) := hM.ast 17 rfl e1 e2
        have hF := hF.ast 17 rfl e2
        refine rb_aload_n C dX4_inserts_57 rfl 0 rfl ?_
        refine rb_get (v := .ref (a 18)) C fl_X4_36_X4 (Or.inl hM.1) rfl dX4_inserts_58 ?_
        refine rb_iload_n C dX4_inserts_61 rfl 1 rfl ?_
        refine rb_iload_n C dX4_inserts_62 rfl 3 rfl ?_
        by_cases c_g : (x1 < 0 ∨ 24 ≤ x1.toNatClampNeg)
        · exact absurd ((if_pos c_g).symm.trans hf) (fun z => by cases z)
        have hf := (if_neg c_g).symm.trans hf
        refine rb_iast (f := (A_l6_1 18)) C (hM.2.1 18 rfl) (rb_nN c_g) dX4_inserts_63 (fun h_4 e1 e2 => ?_)
        have hM : MD Ev h_4 o a S_l6_1 (va_up (va_up A_l6_1 17 (upd (A_l6_1 17) x1.toNatClampNeg x2)) 18 (upd (A_l6_1 18) x1.toNatClampNeg x3)) := hM.ast 18 rfl e1 e2
        have hF := hF.ast 18 rfl e2
        refine rb_aload_n C dX4_inserts_64 rfl 0 rfl ?_
        refine rb_dup C dX4_inserts_65 rfl ?_
        refine rb_get (v := .int (S_l6_1 19)) C fl_X4_161_X4 (Or.inl hM.1) rfl dX4_inserts_66 ?_
        refine rb_iconst (v := 1) C dX4_inserts_69 rfl ?_
        refine rb_iadd C dX4_inserts_70 ?_
        refine rb_put (v := .int ((S_l6_1 19) + 1)) C fw_X4_161_X4 hM.1 rfl rfl (Nat.le_of_ble_eq_true rfl) dX4_inserts_71 (fun h_5 e1 e2 => ?_)
        have hM : MD Ev h_5 o a (upd S_l6_1 19 ((S_l6_1 19) + 1)) (va_up (va_up A_l6_1 17 (upd (A_l6_1 17) x1.toNatClampNeg x2)) 18 (upd (A_l6_1 18) x1.toNatClampNeg x3)) := hM.put e1 e2 rfl
        have hF := hF.put e2
        cases hf
        exact rb_vret C rfl (Nat.zero_le _) (Nat.zero_le _) dX4_inserts_74 ⟨rfl, rfl, hM, hF⟩
      · have hf := (if_neg c_2).symm.trans hf
        refine rb_aload_n C dX4_inserts_12 rfl 0 rfl ?_
        refine rb_get (v := .ref (a 17)) C fl_X4_33_X4 (Or.inl hM.1) rfl dX4_inserts_13 ?_
        refine rb_iload C dX4_inserts_16 4 rfl ?_
        refine rb_aload_n C dX4_inserts_18 rfl 0 rfl ?_
        refine rb_get (v := .ref (a 17)) C fl_X4_33_X4 (Or.inl hM.1) rfl dX4_inserts_19 ?_
        refine rb_iload C dX4_inserts_22 4 rfl ?_
        refine rb_iconst (v := 1) C dX4_inserts_24 rfl ?_
        refine rb_isub C dX4_inserts_25 ?_
        by_cases c_g : ((y4_l6_1 - 1) < 0 ∨ 24 ≤ (y4_l6_1 - 1).toNatClampNeg)
        · exact absurd ((if_pos c_g).symm.trans hf) (fun z => by cases z)
        have hf := (if_neg c_g).symm.trans hf
        refine rb_iald (f := (A_l6_1 17)) C (Or.inl (hM.2.1 17 rfl)) (rb_nN c_g) dX4_inserts_26 ?_
        by_cases c_g : (y4_l6_1 < 0 ∨ 24 ≤ y4_l6_1.toNatClampNeg)
        · exact absurd ((if_pos c_g).symm.trans hf) (fun z => by cases z)
        have hf := (if_neg c_g).symm.trans hf
        refine rb_iast (f := (A_l6_1 17)) C (hM.2.1 17 rfl) (rb_nN c_g) dX4_inserts_27 (fun h_6 e1 e2 => ?_)
        have hM : MD Ev h_6 o a S_l6_1 (va_up A_l6_1 17 (upd (A_l6_1 17) y4_l6_1.toNatClampNeg ((A_l6_1 17) (y4_l6_1 - 1).toNatClampNeg))) := hM.ast 17 rfl e1 e2
        have hF := hF.ast 17 rfl e2
        refine rb_aload_n C dX4_inserts_28 rfl 0 rfl ?_
        refine rb_get (v := .ref (a 18)) C fl_X4_36_X4 (Or.inl hM.1) rfl dX4_inserts_29 ?_
        refine rb_iload C dX4_inserts_32 4 rfl ?_
        refine rb_aload_n C dX4_inserts_34 rfl 0 rfl ?_
        refine rb_get (v := .ref (a 18)) C fl_X4_36_X4 (Or.inl hM.1) rfl dX4_inserts_35 ?_
        refine rb_iload C dX4_inserts_38 4 rfl ?_
        refine rb_iconst (v := 1) C dX4_inserts_40 rfl ?_
        refine rb_isub C dX4_inserts_41 ?_
        by_cases c_g : ((y4_l6_1 - 1) < 0 ∨ 24 ≤ (y4_l6_1 - 1).toNatClampNeg)
        · exact absurd ((if_pos c_g).symm.trans hf) (fun z => by cases z)
        have hf := (if_neg c_g).symm.trans hf
        refine rb_iald (f := (A_l6_1 18)) C (Or.inl (hM.2.1 18 rfl)) (rb_nN c_g) dX4_inserts_42 ?_
        by_cases c_g : (y4_l6_1 < 0 ∨ 24 ≤ y4_l6_1.toNatClampNeg)
        · exact absurd ((if_pos c_g).symm.trans hf) (fun z => by cases z)
        have hf := (if_neg c_g).symm.trans hf
        refine rb_iast (f := (A_l6_1 18)) C (hM.2.1 18 rfl) (rb_nN c_g) dX4_inserts_43 (fun h_7 e1 e2 => ?_)
        have hM : MD Ev h_7 o a S_l6_1 (va_up (va_up A_l6_1 17 (upd (A_l6_1 17) y4_l6_1.toNatClampNeg ((A_l6_1 17) (y4_l6_1 - 1).toNatClampNeg))) 18 (upd (A_l6_1 18) y4_l6_1.toNatClampNeg ((A_l6_1 18) (y4_l6_1 - 1).toNatClampNeg))) := hM.ast 18 rfl e1 e2
        have hF := hF.ast 18 rfl e2
        refine rb_iinc (v := (y4_l6_1 + (-1))) (lv' := [(4, .int (y4_l6_1 + (-1))), (0, .ref o), (1, .int x1), (2, .int x2), (3, .int x3)]) C dX4_inserts_44 (k := 4) rfl rfl (by decide) rfl ?_
        refine rb_goto (tgt := 6) C dX4_inserts_47 (by decide) ?_
        refine rb_sub [1, 2, 3, 4, 0] rfl ?_
        exact ih_l6_1 (y4_l6_1 + (-1)) S_l6_1 (va_up (va_up A_l6_1 17 (upd (A_l6_1 17) y4_l6_1.toNatClampNeg ((A_l6_1 17) (y4_l6_1 - 1).toNatClampNeg))) 18 (upd (A_l6_1 18) y4_l6_1.toNatClampNeg ((A_l6_1 18) (y4_l6_1 - 1).toNatClampNeg))) h_7 hM hF hf
  refine rb_sub [1, 2, 3, 4, 0] rfl ?_
  exact L_l6_1 4096 (S 19) S A h hM hF hf
def f_X4_isIdle (S : Nat → Int32) (A : Nat → Nat → Int32) (x1 : Int32) (x2 : Int32) : Option (Int32 × (Nat → Int32) × (Nat → Nat → Int32)) := ((f_X4_closing S A x1).bind fun v_3 => if (x1 < 0 ∨ 24 ≤ x1.toNatClampNeg) then none else if (v_3 < 0 ∨ 24 ≤ v_3.toNatClampNeg) then none else ((f_X4_takes S A v_3).bind fun (S_7, A_8) => ((f_X4_takes S_7 A_8 x1).bind fun (S_13, A_14) => ((f_X4_isSame S_13 A_14 ).bind fun (v_22, S_19, A_20) => (if v_22 = 0 then ((f_X4_inserts S_19 A_20 x1 40 ((A 18) x1.toNatClampNeg)).bind fun (S_27, A_28) => ((f_X4_inserts S_27 A_28 v_3 41 ((A 18) v_3.toNatClampNeg)).bind fun (S_33, A_34) => (some (v_22, S_33, A_34)))) else (if x2 = 0 then ((f_X4_inserts S_19 A_20 x1 40 ((A 18) x1.toNatClampNeg)).bind fun (S_40, A_41) => ((f_X4_inserts S_40 A_41 v_3 41 ((A 18) v_3.toNatClampNeg)).bind fun (S_46, A_47) => (some (v_22, S_46, A_47)))) else (some (1, S_19, A_20))))))))
abbrev rm_X4_isIdle : Room := { frames := 39, cells := 0, slots := 0, locals := 2065 }
set_option maxHeartbeats 4000000 in
theorem ct_X4_isIdle (Ev : rb_E) (h : AH) (n : Nat) (o : Nat) (a : Nat → Nat) (S : Nat → Int32) (A : Nat → Nat → Int32) (x1 : Int32) (x2 : Int32) (rv : Int32) (rS : Nat → Int32) (rA : Nat → Nat → Int32) (hM : MD Ev h o a S A) (hf : f_X4_isIdle S A x1 x2 = some (rv, rS, rA)) : Ct Ev yX4_isIdle (ws_ yX4_isIdle cX4_isIdle 7 (some .boolean)) rm_X4_isIdle [.ref o, .int x1, .int x2] h n (pM Ev .boolean o a h n rv rS rA) := by
  refine Ct.of rfl (Nat.le_of_ble_eq_true rfl) fun X C hnm => ?_
  have C : Cx Ev X RX4 cX4_isIdle 7 (some .boolean) [] := C
  show Wa Ev X rm_X4_isIdle 7 h n 0 0 (rb_MQ Ev X rm_X4_isIdle (pM Ev .boolean o a h n rv rS rA)) 0 [(0, .ref o), (1, .int x1), (2, .int x2)] []
  have hF : mdFr h h o a := mdFr.rf
  rw [f_X4_isIdle] at hf
  refine rb_aload_n C dX4_isIdle_0 rfl 0 rfl ?_
  refine rb_iload_n C dX4_isIdle_1 rfl 1 rfl ?_
  obtain ⟨v_3, e_2, hf⟩ := rb_bd hf
  refine rb_zVR C mi_X4_closing sv_X4_164 (IsC.of (Or.inl hM.1) ck_X4) (ct_X4_closing Ev h n o a S A x1 _ hM e_2) (rest := []) rfl rfl (Nat.le_of_ble_eq_true rfl) ⟨Nat.le_of_ble_eq_true rfl, Nat.le_of_ble_eq_true rfl⟩ ⟨Nat.zero_le _, Nat.zero_le _⟩ dX4_isIdle_2 (fun hn_4 => ?_)
  refine rb_istore_n (lv' := [(3, .int v_3), (0, .ref o), (1, .int x1), (2, .int x2)]) C dX4_isIdle_5 rfl (by decide) rfl ?_
  refine rb_aload_n C dX4_isIdle_6 rfl 1 rfl ?_
  refine rb_get (v := .ref (a 18)) C fl_X4_36_X4 (Or.inl hM.1) rfl dX4_isIdle_7 ?_
  refine rb_iload_n C dX4_isIdle_10 rfl 2 rfl ?_
  by_cases c_g : (x1 < 0 ∨ 24 ≤ x1.toNatClampNeg)
  · exact absurd ((if_pos c_g).symm.trans hf) (fun z => by cases z)
  have hf := (if_neg c_g).symm.trans hf
  refine rb_iald (f := (A 18)) C (Or.inl (hM.2.1 18 rfl)) (rb_nN c_g) dX4_isIdle_11 ?_
  refine rb_istore (lv' := [(4, .int ((A 18) x1.toNatClampNeg)), (3, .int v_3), (0, .ref o), (1, .int x1), (2, .int x2)]) C dX4_isIdle_12 (by decide) rfl ?_
  refine rb_aload_n C dX4_isIdle_14 rfl 2 rfl ?_
  refine rb_get (v := .ref (a 18)) C fl_X4_36_X4 (Or.inl hM.1) rfl dX4_isIdle_15 ?_
  refine rb_iload_n C dX4_isIdle_18 rfl 1 rfl ?_
  by_cases c_g : (v_3 < 0 ∨ 24 ≤ v_3.toNatClampNeg)
  · exact absurd ((if_pos c_g).symm.trans hf) (fun z => by cases z)
  have hf := (if_neg c_g).symm.trans hf
  refine rb_iald (f := (A 18)) C (Or.inl (hM.2.1 18 rfl)) (rb_nN c_g) dX4_isIdle_19 ?_
  refine rb_istore (lv' := [(5, .int ((A 18) v_3.toNatClampNeg)), (4, .int ((A 18) x1.toNatClampNeg)), (3, .int v_3), (0, .ref o), (1, .int x1), (2, .int x2)]) C dX4_isIdle_20 (by decide) rfl ?_
  refine rb_aload_n C dX4_isIdle_22 rfl 3 rfl ?_
  refine rb_iload_n C dX4_isIdle_23 rfl 2 rfl ?_
  obtain ⟨⟨S_7, A_8⟩, e_6, hf⟩ := rb_bd hf
  refine rb_zVMv C mi_X4_takes sv_X4_202 (IsC.of (Or.inl hM.1) ck_X4) (ct_X4_takes Ev h n o a S A v_3 _ _ hM e_6) (rest := []) rfl rfl (Nat.le_of_ble_eq_true rfl) ⟨Nat.le_of_ble_eq_true rfl, Nat.le_of_ble_eq_true rfl⟩ ⟨Nat.zero_le _, Nat.zero_le _⟩ dX4_isIdle_24 (fun h_9 hM hF1 => ?_)
  have hF := hF.tr hF1
  refine rb_aload_n C dX4_isIdle_27 rfl 3 rfl ?_
  refine rb_iload_n C dX4_isIdle_28 rfl 4 rfl ?_
  obtain ⟨⟨S_13, A_14⟩, e_12, hf⟩ := rb_bd hf
  refine rb_zVMv C mi_X4_takes sv_X4_202 (IsC.of (Or.inl hM.1) ck_X4) (ct_X4_takes Ev h_9 n o a S_7 A_8 x1 _ _ hM e_12) (rest := []) rfl rfl (Nat.le_of_ble_eq_true rfl) ⟨Nat.le_of_ble_eq_true rfl, Nat.le_of_ble_eq_true rfl⟩ ⟨Nat.zero_le _, Nat.zero_le _⟩ dX4_isIdle_29 (fun h_15 hM hF1 => ?_)
  have hF := hF.tr hF1
  refine rb_aload_n C dX4_isIdle_32 rfl 3 rfl ?_
  obtain ⟨⟨v_22, S_19, A_20⟩, e_18, hf⟩ := rb_bd hf
  refine rb_zVM C mi_X4_isSame sv_X4_206 (IsC.of (Or.inl hM.1) ck_X4) (ct_X4_isSame Ev h_15 n o a S_13 A_14  _ _ _ hM e_18) (rest := []) rfl rfl (Nat.le_of_ble_eq_true rfl) ⟨Nat.le_of_ble_eq_true rfl, Nat.le_of_ble_eq_true rfl⟩ ⟨Nat.zero_le _, Nat.zero_le _⟩ dX4_isIdle_33 (fun h_21 hM hF1 hn_23 => ?_)
  have hF := hF.tr hF1
  refine rb_istore (lv' := [(6, .int v_22), (5, .int ((A 18) v_3.toNatClampNeg)), (4, .int ((A 18) x1.toNatClampNeg)), (3, .int v_3), (0, .ref o), (1, .int x1), (2, .int x2)]) C dX4_isIdle_36 (by decide) rfl ?_
  refine rb_iload C dX4_isIdle_38 0 rfl ?_
  refine rb_if_eq (tgt := 49) C dX4_isIdle_40 (by decide) (fun c_24 => ?_) (fun c_24 => ?_)
  · have hf := (if_pos c_24).symm.trans hf
    refine rb_aload_n C dX4_isIdle_49 rfl 4 rfl ?_
    refine rb_iload_n C dX4_isIdle_50 rfl 5 rfl ?_
    refine rb_bipush (v := 40) C dX4_isIdle_51 rfl ?_
    refine rb_iload C dX4_isIdle_53 2 rfl ?_
    obtain ⟨⟨S_27, A_28⟩, e_26, hf⟩ := rb_bd hf
    refine rb_zVMv C mi_X4_inserts sv_X4_209 (IsC.of (Or.inl hM.1) ck_X4) (ct_X4_inserts Ev h_21 n o a S_19 A_20 x1 40 ((A 18) x1.toNatClampNeg) _ _ hM e_26) (rest := []) rfl rfl (Nat.le_of_ble_eq_true rfl) ⟨Nat.le_of_ble_eq_true rfl, Nat.le_of_ble_eq_true rfl⟩ ⟨Nat.zero_le _, Nat.zero_le _⟩ dX4_isIdle_55 (fun h_29 hM hF1 => ?_)
    have hF := hF.tr hF1
    refine rb_aload_n C dX4_isIdle_58 rfl 4 rfl ?_
    refine rb_iload_n C dX4_isIdle_59 rfl 3 rfl ?_
    refine rb_bipush (v := 41) C dX4_isIdle_60 rfl ?_
    refine rb_iload C dX4_isIdle_62 1 rfl ?_
    obtain ⟨⟨S_33, A_34⟩, e_32, hf⟩ := rb_bd hf
    refine rb_zVMv C mi_X4_inserts sv_X4_209 (IsC.of (Or.inl hM.1) ck_X4) (ct_X4_inserts Ev h_29 n o a S_27 A_28 v_3 41 ((A 18) v_3.toNatClampNeg) _ _ hM e_32) (rest := []) rfl rfl (Nat.le_of_ble_eq_true rfl) ⟨Nat.le_of_ble_eq_true rfl, Nat.le_of_ble_eq_true rfl⟩ ⟨Nat.zero_le _, Nat.zero_le _⟩ dX4_isIdle_64 (fun h_35 hM hF1 => ?_)
    have hF := hF.tr hF1
    refine rb_iload C dX4_isIdle_67 0 rfl ?_
    cases hf
    exact rb_iret C rfl hn_23 (Nat.zero_le _) (Nat.zero_le _) dX4_isIdle_69 ⟨rfl, rfl, hM, hF, hn_23⟩
  · have hf := (if_neg c_24).symm.trans hf
    refine rb_iload_n C dX4_isIdle_43 rfl 6 rfl ?_
    refine rb_if_eq (tgt := 49) C dX4_isIdle_44 (by decide) (fun c_37 => ?_) (fun c_37 => ?_)
    · have hf := (if_pos c_37).symm.trans hf
      refine rb_aload_n C dX4_isIdle_49 rfl 4 rfl ?_
      refine rb_iload_n C dX4_isIdle_50 rfl 5 rfl ?_
      refine rb_bipush (v := 40) C dX4_isIdle_51 rfl ?_
      refine rb_iload C dX4_isIdle_53 2 rfl ?_
      obtain ⟨⟨S_40, A_41⟩, e_39, hf⟩ := rb_bd hf
      refine rb_zVMv C mi_X4_inserts sv_X4_209 (IsC.of (Or.inl hM.1) ck_X4) (ct_X4_inserts Ev h_21 n o a S_19 A_20 x1 40 ((A 18) x1.toNatClampNeg) _ _ hM e_39) (rest := []) rfl rfl (Nat.le_of_ble_eq_true rfl) ⟨Nat.le_of_ble_eq_true rfl, Nat.le_of_ble_eq_true rfl⟩ ⟨Nat.zero_le _, Nat.zero_le _⟩ dX4_isIdle_55 (fun h_42 hM hF1 => ?_)
      have hF := hF.tr hF1
      refine rb_aload_n C dX4_isIdle_58 rfl 4 rfl ?_
      refine rb_iload_n C dX4_isIdle_59 rfl 3 rfl ?_
      refine rb_bipush (v := 41) C dX4_isIdle_60 rfl ?_
      refine rb_iload C dX4_isIdle_62 1 rfl ?_
      obtain ⟨⟨S_46, A_47⟩, e_45, hf⟩ := rb_bd hf
      refine rb_zVMv C mi_X4_inserts sv_X4_209 (IsC.of (Or.inl hM.1) ck_X4) (ct_X4_inserts Ev h_42 n o a S_40 A_41 v_3 41 ((A 18) v_3.toNatClampNeg) _ _ hM e_45) (rest := []) rfl rfl (Nat.le_of_ble_eq_true rfl) ⟨Nat.le_of_ble_eq_true rfl, Nat.le_of_ble_eq_true rfl⟩ ⟨Nat.zero_le _, Nat.zero_le _⟩ dX4_isIdle_64 (fun h_48 hM hF1 => ?_)
      have hF := hF.tr hF1
      refine rb_iload C dX4_isIdle_67 0 rfl ?_
      cases hf
      exact rb_iret C rfl hn_23 (Nat.zero_le _) (Nat.zero_le _) dX4_isIdle_69 ⟨rfl, rfl, hM, hF, hn_23⟩
    · have hf := (if_neg c_37).symm.trans hf
      refine rb_iconst (v := 1) C dX4_isIdle_47 rfl ?_
      cases hf
      exact rb_iret C rfl rfl (Nat.zero_le _) (Nat.zero_le _) dX4_isIdle_48 ⟨rfl, rfl, hM, hF, rfl⟩
def f_X4_neededPairs_j51_18 (y1_l17_15 : Int32) (y2_l17_15 : Int32) (rec_l17_15 : Int32 → Int32 → (Nat → Int32) → (Nat → Nat → Int32) → Option (Int32 × (Nat → Int32) × (Nat → Nat → Int32))) (w0_j51_18 : Int32) (S_j51_18 : Nat → Int32) (A_j51_18 : Nat → Nat → Int32) : Option (Int32 × (Nat → Int32) × (Nat → Nat → Int32)) := (rec_l17_15 (y1_l17_15 + w0_j51_18) (y2_l17_15 + 1) S_j51_18 A_j51_18)
def f_X4_neededPairs_l17_15  : Nat → Int32 → Int32 → (Nat → Int32) → (Nat → Nat → Int32) → Option (Int32 × (Nat → Int32) × (Nat → Nat → Int32))
  | 0, _, _, _, _ => none
  | k_l17_15 + 1, y1_l17_15, y2_l17_15, S_l17_15, A_l17_15 => (if (S_l17_15 19) ≤ y2_l17_15 then (some (y1_l17_15, S_l17_15, A_l17_15)) else if (y2_l17_15 < 0 ∨ 24 ≤ y2_l17_15.toNatClampNeg) then none else (if ((A_l17_15 17) y2_l17_15.toNatClampNeg) = 40 then ((f_X4_isIdle S_l17_15 A_l17_15 y2_l17_15 0).bind fun (v_24, S_21, A_22) => (if v_24 = 0 then (f_X4_neededPairs_j51_18 y1_l17_15 y2_l17_15 (f_X4_neededPairs_l17_15  k_l17_15) 1 S_21 A_22) else (f_X4_neededPairs_j51_18 y1_l17_15 y2_l17_15 (f_X4_neededPairs_l17_15  k_l17_15) 0 S_21 A_22))) else (f_X4_neededPairs_j51_18 y1_l17_15 y2_l17_15 (f_X4_neededPairs_l17_15  k_l17_15) 0 S_l17_15 A_l17_15)))
def f_X4_neededPairs (S : Nat → Int32) (A : Nat → Nat → Int32) : Option (Int32 × (Nat → Int32) × (Nat → Nat → Int32)) := ((f_X4_isDraft S A ).bind fun (v_6, S_3, A_4) => (if v_6 = 0 then (some (0, S_3, A_4)) else ((f_X4_remembers S_3 A_4 ).bind fun (S_11, A_12) => (f_X4_neededPairs_l17_15  4096 0 0 S_11 A_12))))
abbrev rm_X4_neededPairs : Room := { frames := 40, cells := 0, slots := 0, locals := 2091 }
set_option maxHeartbeats 4000000 in
theorem ct_X4_neededPairs (Ev : rb_E) (h : AH) (n : Nat) (o : Nat) (a : Nat → Nat) (S : Nat → Int32) (A : Nat → Nat → Int32)  (rv : Int32) (rS : Nat → Int32) (rA : Nat → Nat → Int32) (hM : MD Ev h o a S A) (hf : f_X4_neededPairs S A = some (rv, rS, rA)) : Ct Ev yX4_neededPairs (ws_ yX4_neededPairs cX4_neededPairs 3 (some .int)) rm_X4_neededPairs [.ref o] h n (pM Ev .int o a h n rv rS rA) := by
  refine Ct.of rfl (Nat.le_of_ble_eq_true rfl) fun X C hnm => ?_
  have C : Cx Ev X RX4 cX4_neededPairs 3 (some .int) [] := C
  show Wa Ev X rm_X4_neededPairs 3 h n 0 0 (rb_MQ Ev X rm_X4_neededPairs (pM Ev .int o a h n rv rS rA)) 0 [(0, .ref o)] []
  have hF : mdFr h h o a := mdFr.rf
  rw [f_X4_neededPairs] at hf
  refine rb_aload_n C dX4_neededPairs_0 rfl 0 rfl ?_
  obtain ⟨⟨v_6, S_3, A_4⟩, e_2, hf⟩ := rb_bd hf
  refine rb_zVM C mi_X4_isDraft sv_X4_185 (IsC.of (Or.inl hM.1) ck_X4) (ct_X4_isDraft Ev h n o a S A  _ _ _ hM e_2) (rest := []) rfl rfl (Nat.le_of_ble_eq_true rfl) ⟨Nat.le_of_ble_eq_true rfl, Nat.le_of_ble_eq_true rfl⟩ ⟨Nat.zero_le _, Nat.zero_le _⟩ dX4_neededPairs_1 (fun h_5 hM hF1 hn_7 => ?_)
  have hF := hF.tr hF1
  refine rb_if_ne (tgt := 9) C dX4_neededPairs_4 (by decide) (fun c_8 => ?_) (fun c_8 => ?_)
  · have hf := (if_neg c_8).symm.trans hf
    refine rb_aload_n C dX4_neededPairs_9 rfl 0 rfl ?_
    obtain ⟨⟨S_11, A_12⟩, e_10, hf⟩ := rb_bd hf
    refine rb_zVMv C mi_X4_remembers sv_X4_213 (IsC.of (Or.inl hM.1) ck_X4) (ct_X4_remembers Ev h_5 n o a S_3 A_4  _ _ hM e_10) (rest := []) rfl rfl (Nat.le_of_ble_eq_true rfl) ⟨Nat.le_of_ble_eq_true rfl, Nat.le_of_ble_eq_true rfl⟩ ⟨Nat.zero_le _, Nat.zero_le _⟩ dX4_neededPairs_10 (fun h_13 hM hF1 => ?_)
    have hF := hF.tr hF1
    refine rb_iconst (v := 0) C dX4_neededPairs_13 rfl ?_
    refine rb_istore_n (lv' := [(1, .int 0), (0, .ref o)]) C dX4_neededPairs_14 rfl (by decide) rfl ?_
    refine rb_iconst (v := 0) C dX4_neededPairs_15 rfl ?_
    refine rb_istore_n (lv' := [(2, .int 0), (1, .int 0), (0, .ref o)]) C dX4_neededPairs_16 rfl (by decide) rfl ?_
    have L_l17_15 : ∀ (k_l17_15 : Nat) (y1_l17_15 : Int32) (y2_l17_15 : Int32) (S_l17_15 : Nat → Int32) (A_l17_15 : Nat → Nat → Int32) (h_l17_15 : AH), MD Ev h_l17_15 o a S_l17_15 A_l17_15 → mdFr h h_l17_15 o a → f_X4_neededPairs_l17_15  k_l17_15 y1_l17_15 y2_l17_15 S_l17_15 A_l17_15 = some (rv, rS, rA) → Wa Ev X rm_X4_neededPairs 3 h_l17_15 n 0 0 (rb_MQ Ev X rm_X4_neededPairs (pM Ev .int o a h n rv rS rA)) 17 [(0, .ref o), (1, .int y1_l17_15), (2, .int y2_l17_15)] [] := by
      intro k_l17_15
      induction k_l17_15 with
      | zero => intro y1_l17_15 y2_l17_15 S_l17_15 A_l17_15 h_l17_15 hM hF hf; cases hf
      | succ k_l17_15 ih_l17_15 =>
        intro y1_l17_15 y2_l17_15 S_l17_15 A_l17_15 h_l17_15 hM hF hf
        rw [f_X4_neededPairs_l17_15] at hf
        refine rb_iload_n C dX4_neededPairs_17 rfl 2 rfl ?_
        refine rb_aload_n C dX4_neededPairs_18 rfl 0 rfl ?_
        refine rb_get (v := .int (S_l17_15 19)) C fl_X4_161_X4 (Or.inl hM.1) rfl dX4_neededPairs_19 ?_
        refine rb_icmp_ge (tgt := 59) C dX4_neededPairs_22 (by decide) (fun c_16 => ?_) (fun c_16 => ?_)
        · have hf := (if_pos c_16).symm.trans hf
          refine rb_iload_n C dX4_neededPairs_59 rfl 1 rfl ?_
          cases hf
          exact rb_iret C rfl rfl (Nat.zero_le _) (Nat.zero_le _) dX4_neededPairs_60 ⟨rfl, rfl, hM, hF, rfl⟩
        · have hf := (if_neg c_16).symm.trans hf
          refine rb_iload_n C dX4_neededPairs_25 rfl 1 rfl ?_
          refine rb_aload_n C dX4_neededPairs_26 rfl 0 rfl ?_
          refine rb_get (v := .ref (a 17)) C fl_X4_33_X4 (Or.inl hM.1) rfl dX4_neededPairs_27 ?_
          refine rb_iload_n C dX4_neededPairs_30 rfl 2 rfl ?_
          by_cases c_g : (y2_l17_15 < 0 ∨ 24 ≤ y2_l17_15.toNatClampNeg)
          · exact absurd ((if_pos c_g).symm.trans hf) (fun z => by cases z)
          have hf := (if_neg c_g).symm.trans hf
          refine rb_iald (f := (A_l17_15 17)) C (Or.inl (hM.2.1 17 rfl)) (rb_nN c_g) dX4_neededPairs_31 ?_
          refine rb_bipush (v := 40) C dX4_neededPairs_32 rfl ?_
          have J_j51_18 : ∀ (w0_j51_18 : Int32) (S_j51_18 : Nat → Int32) (A_j51_18 : Nat → Nat → Int32) (h_j51_18 : AH), MD Ev h_j51_18 o a S_j51_18 A_j51_18 → mdFr h h_j51_18 o a → f_X4_neededPairs_j51_18 y1_l17_15 y2_l17_15 (f_X4_neededPairs_l17_15  k_l17_15) w0_j51_18 S_j51_18 A_j51_18 = some (rv, rS, rA) → Wa Ev X rm_X4_neededPairs 3 h_j51_18 n 0 0 (rb_MQ Ev X rm_X4_neededPairs (pM Ev .int o a h n rv rS rA)) 51 [(0, .ref o), (1, .int y1_l17_15), (2, .int y2_l17_15)] [.int w0_j51_18, .int y1_l17_15] := by
            intro w0_j51_18 S_j51_18 A_j51_18 h_j51_18 hM hF hf
            rw [f_X4_neededPairs_j51_18] at hf
            refine rb_iadd C dX4_neededPairs_51 ?_
            refine rb_istore_n (lv' := [(1, .int (y1_l17_15 + w0_j51_18)), (0, .ref o), (2, .int y2_l17_15)]) C dX4_neededPairs_52 rfl (by decide) rfl ?_
            refine rb_iinc (v := (y2_l17_15 + 1)) (lv' := [(2, .int (y2_l17_15 + 1)), (1, .int (y1_l17_15 + w0_j51_18)), (0, .ref o)]) C dX4_neededPairs_53 (k := 2) rfl rfl (by decide) rfl ?_
            refine rb_goto (tgt := 17) C dX4_neededPairs_56 (by decide) ?_
            refine rb_sub [2, 1, 0] rfl ?_
            exact ih_l17_15 (y1_l17_15 + w0_j51_18) (y2_l17_15 + 1) S_j51_18 A_j51_18 h_j51_18 hM hF hf
          refine rb_icmp_ne (tgt := 50) C dX4_neededPairs_34 (by decide) (fun c_17 => ?_) (fun c_17 => ?_)
          · have hf := (if_neg c_17).symm.trans hf
            refine rb_iconst (v := 0) C dX4_neededPairs_50 rfl ?_
            exact J_j51_18 0 S_l17_15 A_l17_15 h_l17_15 hM hF hf
          · have hf := (if_pos c_17).symm.trans hf
            refine rb_aload_n C dX4_neededPairs_37 rfl 0 rfl ?_
            refine rb_iload_n C dX4_neededPairs_38 rfl 2 rfl ?_
            refine rb_iconst (v := 0) C dX4_neededPairs_39 rfl ?_
            obtain ⟨⟨v_24, S_21, A_22⟩, e_20, hf⟩ := rb_bd hf
            refine rb_zVM C mi_X4_isIdle sv_X4_216 (IsC.of (Or.inl hM.1) ck_X4) (ct_X4_isIdle Ev h_l17_15 n o a S_l17_15 A_l17_15 y2_l17_15 0 _ _ _ hM e_20) (rest := [.int y1_l17_15]) rfl rfl (Nat.le_of_ble_eq_true rfl) ⟨Nat.le_of_ble_eq_true rfl, Nat.le_of_ble_eq_true rfl⟩ ⟨Nat.zero_le _, Nat.zero_le _⟩ dX4_neededPairs_40 (fun h_23 hM hF1 hn_25 => ?_)
            have hF := hF.tr hF1
            refine rb_if_ne (tgt := 50) C dX4_neededPairs_43 (by decide) (fun c_26 => ?_) (fun c_26 => ?_)
            · have hf := (if_neg c_26).symm.trans hf
              refine rb_iconst (v := 0) C dX4_neededPairs_50 rfl ?_
              exact J_j51_18 0 S_21 A_22 h_23 hM hF hf
            · have hf := (if_pos c_26).symm.trans hf
              refine rb_iconst (v := 1) C dX4_neededPairs_46 rfl ?_
              refine rb_goto (tgt := 51) C dX4_neededPairs_47 (by decide) ?_
              exact J_j51_18 1 S_21 A_22 h_23 hM hF hf
    refine rb_sub [2, 1, 0] rfl ?_
    exact L_l17_15 4096 0 0 S_11 A_12 h_13 hM hF hf
  · have hf := (if_pos c_8).symm.trans hf
    refine rb_iconst (v := 0) C dX4_neededPairs_7 rfl ?_
    cases hf
    exact rb_iret C rfl rfl (Nat.zero_le _) (Nat.zero_le _) dX4_neededPairs_8 ⟨rfl, rfl, hM, hF, rfl⟩
def f_X4_rows_j56_6 (y1_l7_2 : Int32) (rec_l7_2 : Int32 → (Nat → Int32) → (Nat → Nat → Int32) → Option ((Nat → Int32) × (Nat → Nat → Int32))) (S_j56_6 : Nat → Int32) (A_j56_6 : Nat → Nat → Int32) : Option ((Nat → Int32) × (Nat → Nat → Int32)) := if (y1_l7_2 < 0 ∨ 24 ≤ y1_l7_2.toNatClampNeg) then none else (if (f_X4_isOperator ((A_j56_6 17) y1_l7_2.toNatClampNeg)) = 0 then (rec_l7_2 (y1_l7_2 + 1) S_j56_6 A_j56_6) else if (y1_l7_2 < 0 ∨ 24 ≤ y1_l7_2.toNatClampNeg) then none else if ((32 + (f_X4_signOf ((A_j56_6 17) y1_l7_2.toNatClampNeg))) < 0 ∨ 44 ≤ (32 + (f_X4_signOf ((A_j56_6 17) y1_l7_2.toNatClampNeg))).toNatClampNeg) then none else if ((S_j56_6 26) < 0 ∨ 8 ≤ (S_j56_6 26).toNatClampNeg) then none else (rec_l7_2 (y1_l7_2 + 1) S_j56_6 (va_up A_j56_6 25 (upd (A_j56_6 25) (S_j56_6 26).toNatClampNeg ((A_j56_6 0) (32 + (f_X4_signOf ((A_j56_6 17) y1_l7_2.toNatClampNeg))).toNatClampNeg)))))
def f_X4_rows_l7_2  : Nat → Int32 → (Nat → Int32) → (Nat → Nat → Int32) → Option ((Nat → Int32) × (Nat → Nat → Int32))
  | 0, _, _, _ => none
  | k_l7_2 + 1, y1_l7_2, S_l7_2, A_l7_2 => (if (S_l7_2 19) ≤ y1_l7_2 then (some (S_l7_2, A_l7_2)) else if (y1_l7_2 < 0 ∨ 24 ≤ y1_l7_2.toNatClampNeg) then none else (if (f_X4_isOperand ((A_l7_2 17) y1_l7_2.toNatClampNeg)) = 0 then (f_X4_rows_j56_6 y1_l7_2 (f_X4_rows_l7_2  k_l7_2) S_l7_2 A_l7_2) else if (y1_l7_2 < 0 ∨ 24 ≤ y1_l7_2.toNatClampNeg) then none else ((f_X4_operandValue S_l7_2 A_l7_2 ((A_l7_2 17) y1_l7_2.toNatClampNeg)).bind fun v_13 => if ((S_l7_2 26) < 0 ∨ 8 ≤ (S_l7_2 26).toNatClampNeg) then none else (f_X4_rows_j56_6 y1_l7_2 (f_X4_rows_l7_2  k_l7_2) (upd S_l7_2 26 ((S_l7_2 26) + 1)) (va_up A_l7_2 24 (upd (A_l7_2 24) (S_l7_2 26).toNatClampNeg v_13))))))
def f_X4_rows (S : Nat → Int32) (A : Nat → Nat → Int32) : Option ((Nat → Int32) × (Nat → Nat → Int32)) := (f_X4_rows_l7_2  4096 0 (upd S 26 0) A)
abbrev rm_X4_rows : Room := { frames := 3, cells := 0, slots := 0, locals := 63 }
set_option maxHeartbeats 4000000 in
theorem ct_X4_rows (Ev : rb_E) (h : AH) (n : Nat) (o : Nat) (a : Nat → Nat) (S : Nat → Int32) (A : Nat → Nat → Int32)  (rS : Nat → Int32) (rA : Nat → Nat → Int32) (hM : MD Ev h o a S A) (hf : f_X4_rows S A = some (rS, rA)) : Ct Ev yX4_rows (ws_ yX4_rows cX4_rows 2 none) rm_X4_rows [.ref o] h n (pMv Ev o a h n none rS rA) := by
  refine Ct.of rfl (Nat.le_of_ble_eq_true rfl) fun X C hnm => ?_
  have C : Cx Ev X RX4 cX4_rows 2 none [] := C
  show Wa Ev X rm_X4_rows 2 h n 0 0 (rb_MQ Ev X rm_X4_rows (pMv Ev o a h n none rS rA)) 0 [(0, .ref o)] []
  have hF : mdFr h h o a := mdFr.rf
  rw [f_X4_rows] at hf
  refine rb_aload_n C dX4_rows_0 rfl 0 rfl ?_
  refine rb_iconst (v := 0) C dX4_rows_1 rfl ?_
  refine rb_put (v := .int 0) C fw_X4_220_X4 hM.1 rfl rfl (Nat.le_of_ble_eq_true rfl) dX4_rows_2 (fun h_1 e1 e2 => ?_)
  have hM : MD Ev h_1 o a (upd S 26 0) A := hM.put e1 e2 rfl
  have hF := hF.put e2
  refine rb_iconst (v := 0) C dX4_rows_5 rfl ?_
  refine rb_istore_n (lv' := [(1, .int 0), (0, .ref o)]) C dX4_rows_6 rfl (by decide) rfl ?_
  have L_l7_2 : ∀ (k_l7_2 : Nat) (y1_l7_2 : Int32) (S_l7_2 : Nat → Int32) (A_l7_2 : Nat → Nat → Int32) (h_l7_2 : AH), MD Ev h_l7_2 o a S_l7_2 A_l7_2 → mdFr h h_l7_2 o a → f_X4_rows_l7_2  k_l7_2 y1_l7_2 S_l7_2 A_l7_2 = some (rS, rA) → Wa Ev X rm_X4_rows 2 h_l7_2 n 0 0 (rb_MQ Ev X rm_X4_rows (pMv Ev o a h n none rS rA)) 7 [(0, .ref o), (1, .int y1_l7_2)] [] := by
    intro k_l7_2
    induction k_l7_2 with
    | zero => intro y1_l7_2 S_l7_2 A_l7_2 h_l7_2 hM hF hf; cases hf
    | succ k_l7_2 ih_l7_2 =>
      intro y1_l7_2 S_l7_2 A_l7_2 h_l7_2 hM hF hf
      rw [f_X4_rows_l7_2] at hf
      refine rb_iload_n C dX4_rows_7 rfl 1 rfl ?_
      refine rb_aload_n C dX4_rows_8 rfl 0 rfl ?_
      refine rb_get (v := .int (S_l7_2 19)) C fl_X4_161_X4 (Or.inl hM.1) rfl dX4_rows_9 ?_
      refine rb_icmp_ge (tgt := 100) C dX4_rows_12 (by decide) (fun c_3 => ?_) (fun c_3 => ?_)
      · have hf := (if_pos c_3).symm.trans hf
        cases hf
        exact rb_vret C rfl (Nat.zero_le _) (Nat.zero_le _) dX4_rows_100 ⟨rfl, rfl, hM, hF⟩
      · have hf := (if_neg c_3).symm.trans hf
        refine rb_aload_n C dX4_rows_15 rfl 0 rfl ?_
        refine rb_get (v := .ref (a 17)) C fl_X4_33_X4 (Or.inl hM.1) rfl dX4_rows_16 ?_
        refine rb_iload_n C dX4_rows_19 rfl 1 rfl ?_
        by_cases c_g : (y1_l7_2 < 0 ∨ 24 ≤ y1_l7_2.toNatClampNeg)
        · exact absurd ((if_pos c_g).symm.trans hf) (fun z => by cases z)
        have hf := (if_neg c_g).symm.trans hf
        refine rb_iald (f := (A_l7_2 17)) C (Or.inl (hM.2.1 17 rfl)) (rb_nN c_g) dX4_rows_20 ?_
        refine rb_zSR C mi_X4_isOperand ss_X4_111 (ct_X4_isOperand Ev h_l7_2 n ((A_l7_2 17) y1_l7_2.toNatClampNeg) _ rfl) (rest := []) rfl rfl (Nat.le_of_ble_eq_true rfl) ⟨Nat.le_of_ble_eq_true rfl, Nat.le_of_ble_eq_true rfl⟩ ⟨Nat.zero_le _, Nat.zero_le _⟩ dX4_rows_21 (fun hn_4 => ?_)
        have J_j56_6 : ∀  (S_j56_6 : Nat → Int32) (A_j56_6 : Nat → Nat → Int32) (h_j56_6 : AH), MD Ev h_j56_6 o a S_j56_6 A_j56_6 → mdFr h h_j56_6 o a → f_X4_rows_j56_6 y1_l7_2 (f_X4_rows_l7_2  k_l7_2) S_j56_6 A_j56_6 = some (rS, rA) → Wa Ev X rm_X4_rows 2 h_j56_6 n 0 0 (rb_MQ Ev X rm_X4_rows (pMv Ev o a h n none rS rA)) 56 [(0, .ref o), (1, .int y1_l7_2)] [] := by
          intro  S_j56_6 A_j56_6 h_j56_6 hM hF hf
          rw [f_X4_rows_j56_6] at hf
          refine rb_aload_n C dX4_rows_56 rfl 0 rfl ?_
          refine rb_get (v := .ref (a 17)) C fl_X4_33_X4 (Or.inl hM.1) rfl dX4_rows_57 ?_
          refine rb_iload_n C dX4_rows_60 rfl 1 rfl ?_
          by_cases c_g : (y1_l7_2 < 0 ∨ 24 ≤ y1_l7_2.toNatClampNeg)
          · exact absurd ((if_pos c_g).symm.trans hf) (fun z => by cases z)
          have hf := (if_neg c_g).symm.trans hf
          refine rb_iald (f := (A_j56_6 17)) C (Or.inl (hM.2.1 17 rfl)) (rb_nN c_g) dX4_rows_61 ?_
          refine rb_zSR C mi_X4_isOperator ss_X4_138 (ct_X4_isOperator Ev h_j56_6 n ((A_j56_6 17) y1_l7_2.toNatClampNeg) _ rfl) (rest := []) rfl rfl (Nat.le_of_ble_eq_true rfl) ⟨Nat.le_of_ble_eq_true rfl, Nat.le_of_ble_eq_true rfl⟩ ⟨Nat.zero_le _, Nat.zero_le _⟩ dX4_rows_62 (fun hn_7 => ?_)
          refine rb_if_eq (tgt := 94) C dX4_rows_65 (by decide) (fun c_8 => ?_) (fun c_8 => ?_)
          · have hf := (if_pos c_8).symm.trans hf
            refine rb_iinc (v := (y1_l7_2 + 1)) (lv' := [(1, .int (y1_l7_2 + 1)), (0, .ref o)]) C dX4_rows_94 (k := 1) rfl rfl (by decide) rfl ?_
            refine rb_goto (tgt := 7) C dX4_rows_97 (by decide) ?_
            refine rb_sub [1, 0] rfl ?_
            exact ih_l7_2 (y1_l7_2 + 1) S_j56_6 A_j56_6 h_j56_6 hM hF hf
          · have hf := (if_neg c_8).symm.trans hf
            refine rb_aload_n C dX4_rows_68 rfl 0 rfl ?_
            refine rb_get (v := .ref (a 25)) C fl_X4_54_X4 (Or.inl hM.1) rfl dX4_rows_69 ?_
            refine rb_aload_n C dX4_rows_72 rfl 0 rfl ?_
            refine rb_get (v := .int (S_j56_6 26)) C fl_X4_220_X4 (Or.inl hM.1) rfl dX4_rows_73 ?_
            refine rb_aload_n C dX4_rows_76 rfl 0 rfl ?_
            refine rb_get (v := .ref (a 0)) C fl_X4_7_X4 (Or.inl hM.1) rfl dX4_rows_77 ?_
            refine rb_bipush (v := 32) C dX4_rows_80 rfl ?_
            refine rb_aload_n C dX4_rows_82 rfl 0 rfl ?_
            refine rb_get (v := .ref (a 17)) C fl_X4_33_X4 (Or.inl hM.1) rfl dX4_rows_83 ?_
            refine rb_iload_n C dX4_rows_86 rfl 1 rfl ?_
            by_cases c_g : (y1_l7_2 < 0 ∨ 24 ≤ y1_l7_2.toNatClampNeg)
            · exact absurd ((if_pos c_g).symm.trans hf) (fun z => by cases z)
            have hf := (if_neg c_g).symm.trans hf
            refine rb_iald (f := (A_j56_6 17)) C (Or.inl (hM.2.1 17 rfl)) (rb_nN c_g) dX4_rows_87 ?_
            refine rb_zSR C mi_X4_signOf ss_X4_99 (ct_X4_signOf Ev h_j56_6 n ((A_j56_6 17) y1_l7_2.toNatClampNeg) _ rfl) (rest := [.int 32, .ref (a 0), .int (S_j56_6 26), .ref (a 25)]) rfl rfl (Nat.le_of_ble_eq_true rfl) ⟨Nat.le_of_ble_eq_true rfl, Nat.le_of_ble_eq_true rfl⟩ ⟨Nat.zero_le _, Nat.zero_le _⟩ dX4_rows_88 (fun hn_9 => ?_)
            refine rb_iadd C dX4_rows_91 ?_
            by_cases c_g : ((32 + (f_X4_signOf ((A_j56_6 17) y1_l7_2.toNatClampNeg))) < 0 ∨ 44 ≤ (32 + (f_X4_signOf ((A_j56_6 17) y1_l7_2.toNatClampNeg))).toNatClampNeg)
            · exact absurd ((if_pos c_g).symm.trans hf) (fun z => by cases z)
            have hf := (if_neg c_g).symm.trans hf
            refine rb_iald (f := (A_j56_6 0)) C (Or.inl (hM.2.1 0 rfl)) (rb_nN c_g) dX4_rows_92 ?_
            by_cases c_g : ((S_j56_6 26) < 0 ∨ 8 ≤ (S_j56_6 26).toNatClampNeg)
            · exact absurd ((if_pos c_g).symm.trans hf) (fun z => by cases z)
            have hf := (if_neg c_g).symm.trans hf
            refine rb_iast (f := (A_j56_6 25)) C (hM.2.1 25 rfl) (rb_nN c_g) dX4_rows_93 (fun h_10 e1 e2 => ?_)
            have hM : MD Ev h_10 o a S_j56_6 (va_up A_j56_6 25 (upd (A_j56_6 25) (S_j56_6 26).toNatClampNeg ((A_j56_6 0) (32 + (f_X4_signOf ((A_j56_6 17) y1_l7_2.toNatClampNeg))).toNatClampNeg))) := hM.ast 25 rfl e1 e2
            have hF := hF.ast 25 rfl e2
            refine rb_iinc (v := (y1_l7_2 + 1)) (lv' := [(1, .int (y1_l7_2 + 1)), (0, .ref o)]) C dX4_rows_94 (k := 1) rfl rfl (by decide) rfl ?_
            refine rb_goto (tgt := 7) C dX4_rows_97 (by decide) ?_
            refine rb_sub [1, 0] rfl ?_
            exact ih_l7_2 (y1_l7_2 + 1) S_j56_6 (va_up A_j56_6 25 (upd (A_j56_6 25) (S_j56_6 26).toNatClampNeg ((A_j56_6 0) (32 + (f_X4_signOf ((A_j56_6 17) y1_l7_2.toNatClampNeg))).toNatClampNeg))) h_10 hM hF hf
        refine rb_if_eq (tgt := 56) C dX4_rows_24 (by decide) (fun c_5 => ?_) (fun c_5 => ?_)
        · have hf := (if_pos c_5).symm.trans hf
          exact J_j56_6 S_l7_2 A_l7_2 h_l7_2 hM hF hf
        · have hf := (if_neg c_5).symm.trans hf
          refine rb_aload_n C dX4_rows_27 rfl 0 rfl ?_
          refine rb_get (v := .ref (a 24)) C fl_X4_51_X4 (Or.inl hM.1) rfl dX4_rows_28 ?_
          refine rb_aload_n C dX4_rows_31 rfl 0 rfl ?_
          refine rb_get (v := .int (S_l7_2 26)) C fl_X4_220_X4 (Or.inl hM.1) rfl dX4_rows_32 ?_
          refine rb_aload_n C dX4_rows_35 rfl 0 rfl ?_
          refine rb_aload_n C dX4_rows_36 rfl 0 rfl ?_
          refine rb_get (v := .ref (a 17)) C fl_X4_33_X4 (Or.inl hM.1) rfl dX4_rows_37 ?_
          refine rb_iload_n C dX4_rows_40 rfl 1 rfl ?_
          by_cases c_g : (y1_l7_2 < 0 ∨ 24 ≤ y1_l7_2.toNatClampNeg)
          · exact absurd ((if_pos c_g).symm.trans hf) (fun z => by cases z)
          have hf := (if_neg c_g).symm.trans hf
          refine rb_iald (f := (A_l7_2 17)) C (Or.inl (hM.2.1 17 rfl)) (rb_nN c_g) dX4_rows_41 ?_
          obtain ⟨v_13, e_12, hf⟩ := rb_bd hf
          refine rb_zVR C mi_X4_operandValue sv_X4_179 (IsC.of (Or.inl hM.1) ck_X4) (ct_X4_operandValue Ev h_l7_2 n o a S_l7_2 A_l7_2 ((A_l7_2 17) y1_l7_2.toNatClampNeg) _ hM e_12) (rest := [.int (S_l7_2 26), .ref (a 24)]) rfl rfl (Nat.le_of_ble_eq_true rfl) ⟨Nat.le_of_ble_eq_true rfl, Nat.le_of_ble_eq_true rfl⟩ ⟨Nat.zero_le _, Nat.zero_le _⟩ dX4_rows_42 (fun hn_14 => ?_)
          by_cases c_g : ((S_l7_2 26) < 0 ∨ 8 ≤ (S_l7_2 26).toNatClampNeg)
          · exact absurd ((if_pos c_g).symm.trans hf) (fun z => by cases z)
          have hf := (if_neg c_g).symm.trans hf
          refine rb_iast (f := (A_l7_2 24)) C (hM.2.1 24 rfl) (rb_nN c_g) dX4_rows_45 (fun h_15 e1 e2 => ?_)
          have hM : MD Ev h_15 o a S_l7_2 (va_up A_l7_2 24 (upd (A_l7_2 24) (S_l7_2 26).toNatClampNeg v_13)) := hM.ast 24 rfl e1 e2
          have hF := hF.ast 24 rfl e2
          refine rb_aload_n C dX4_rows_46 rfl 0 rfl ?_
          refine rb_dup C dX4_rows_47 rfl ?_
          refine rb_get (v := .int (S_l7_2 26)) C fl_X4_220_X4 (Or.inl hM.1) rfl dX4_rows_48 ?_
          refine rb_iconst (v := 1) C dX4_rows_51 rfl ?_
          refine rb_iadd C dX4_rows_52 ?_
          refine rb_put (v := .int ((S_l7_2 26) + 1)) C fw_X4_220_X4 hM.1 rfl rfl (Nat.le_of_ble_eq_true rfl) dX4_rows_53 (fun h_16 e1 e2 => ?_)
          have hM : MD Ev h_16 o a (upd S_l7_2 26 ((S_l7_2 26) + 1)) (va_up A_l7_2 24 (upd (A_l7_2 24) (S_l7_2 26).toNatClampNeg v_13)) := hM.put e1 e2 rfl
          have hF := hF.put e2
          exact J_j56_6 (upd S_l7_2 26 ((S_l7_2 26) + 1)) (va_up A_l7_2 24 (upd (A_l7_2 24) (S_l7_2 26).toNatClampNeg v_13)) h_16 hM hF hf
  refine rb_sub [1, 0] rfl ?_
  exact L_l7_2 4096 0 (upd S 26 0) A h_1 hM hF hf
def f_X4_joins_l21_3 (x1 : Int32) (x2 : Int32) (x3 : Int32) (y6_l7_1 : Int32) (rec_l7_1 : Int32 → Int32 → (Nat → Int32) → (Nat → Nat → Int32) → Option (Int32 × (Nat → Int32) × (Nat → Nat → Int32))) : Nat → Int32 → Int32 → (Nat → Int32) → (Nat → Nat → Int32) → Option (Int32 × (Nat → Int32) × (Nat → Nat → Int32))
  | 0, _, _, _, _ => none
  | k_l21_3 + 1, y5_l21_3, y7_l21_3, S_l21_3, A_l21_3 => if (x2 < 0 ∨ 64 ≤ x2.toNatClampNeg) then none else (if ((A_l21_3 29) x2.toNatClampNeg) ≤ y7_l21_3 then (rec_l7_1 y5_l21_3 (y6_l7_1 + 1) S_l21_3 A_l21_3) else if (x1 < 0 ∨ 64 ≤ x1.toNatClampNeg) then none else if ((((A_l21_3 28) x1.toNatClampNeg) + y6_l7_1) < 0 ∨ 1000 ≤ (((A_l21_3 28) x1.toNatClampNeg) + y6_l7_1).toNatClampNeg) then none else if (x2 < 0 ∨ 64 ≤ x2.toNatClampNeg) then none else if ((((A_l21_3 28) x2.toNatClampNeg) + y7_l21_3) < 0 ∨ 1000 ≤ (((A_l21_3 28) x2.toNatClampNeg) + y7_l21_3).toNatClampNeg) then none else if (y5_l21_3 < 0 ∨ 1000 ≤ y5_l21_3.toNatClampNeg) then none else ((f_X4_joins_l21_3 x1 x2 x3 y6_l7_1 rec_l7_1 k_l21_3) (y5_l21_3 + 1) (y7_l21_3 + 1) S_l21_3 (va_up A_l21_3 27 (upd (A_l21_3 27) y5_l21_3.toNatClampNeg (f_X4_makes x3 ((A_l21_3 27) (((A_l21_3 28) x1.toNatClampNeg) + y6_l7_1).toNatClampNeg) ((A_l21_3 27) (((A_l21_3 28) x2.toNatClampNeg) + y7_l21_3).toNatClampNeg))))))
def f_X4_joins_l7_1 (x1 : Int32) (x2 : Int32) (x3 : Int32) : Nat → Int32 → Int32 → (Nat → Int32) → (Nat → Nat → Int32) → Option (Int32 × (Nat → Int32) × (Nat → Nat → Int32))
  | 0, _, _, _, _ => none
  | k_l7_1 + 1, y5_l7_1, y6_l7_1, S_l7_1, A_l7_1 => if (x1 < 0 ∨ 64 ≤ x1.toNatClampNeg) then none else (if ((A_l7_1 29) x1.toNatClampNeg) ≤ y6_l7_1 then (some (y5_l7_1, S_l7_1, A_l7_1)) else (f_X4_joins_l21_3 x1 x2 x3 y6_l7_1 (f_X4_joins_l7_1 x1 x2 x3 k_l7_1) 4096 y5_l7_1 0 S_l7_1 A_l7_1))
def f_X4_joins (S : Nat → Int32) (A : Nat → Nat → Int32) (x1 : Int32) (x2 : Int32) (x3 : Int32) (x4 : Int32) : Option (Int32 × (Nat → Int32) × (Nat → Nat → Int32)) := (f_X4_joins_l7_1 x1 x2 x3 4096 x4 0 S A)
abbrev rm_X4_joins : Room := { frames := 2, cells := 0, slots := 0, locals := 43 }
set_option maxHeartbeats 4000000 in
theorem ct_X4_joins (Ev : rb_E) (h : AH) (n : Nat) (o : Nat) (a : Nat → Nat) (S : Nat → Int32) (A : Nat → Nat → Int32) (x1 : Int32) (x2 : Int32) (x3 : Int32) (x4 : Int32) (rv : Int32) (rS : Nat → Int32) (rA : Nat → Nat → Int32) (hM : MD Ev h o a S A) (hf : f_X4_joins S A x1 x2 x3 x4 = some (rv, rS, rA)) : Ct Ev yX4_joins (ws_ yX4_joins cX4_joins 8 (some .int)) rm_X4_joins [.ref o, .int x1, .int x2, .int x3, .int x4] h n (pM Ev .int o a h n rv rS rA) := by
  refine Ct.of rfl (Nat.le_of_ble_eq_true rfl) fun X C hnm => ?_
  have C : Cx Ev X RX4 cX4_joins 8 (some .int) [] := C
  show Wa Ev X rm_X4_joins 8 h n 0 0 (rb_MQ Ev X rm_X4_joins (pM Ev .int o a h n rv rS rA)) 0 [(0, .ref o), (1, .int x1), (2, .int x2), (3, .int x3), (4, .int x4)] []
  have hF : mdFr h h o a := mdFr.rf
  rw [f_X4_joins] at hf
  refine rb_iload C dX4_joins_0 4 rfl ?_
  refine rb_istore (lv' := [(5, .int x4), (0, .ref o), (1, .int x1), (2, .int x2), (3, .int x3), (4, .int x4)]) C dX4_joins_2 (by decide) rfl ?_
  refine rb_iconst (v := 0) C dX4_joins_4 rfl ?_
  refine rb_istore (lv' := [(6, .int 0), (5, .int x4), (0, .ref o), (1, .int x1), (2, .int x2), (3, .int x3), (4, .int x4)]) C dX4_joins_5 (by decide) rfl ?_
  have L_l7_1 : ∀ (k_l7_1 : Nat) (y5_l7_1 : Int32) (y6_l7_1 : Int32) (S_l7_1 : Nat → Int32) (A_l7_1 : Nat → Nat → Int32) (h_l7_1 : AH), MD Ev h_l7_1 o a S_l7_1 A_l7_1 → mdFr h h_l7_1 o a → f_X4_joins_l7_1 x1 x2 x3 k_l7_1 y5_l7_1 y6_l7_1 S_l7_1 A_l7_1 = some (rv, rS, rA) → Wa Ev X rm_X4_joins 8 h_l7_1 n 0 0 (rb_MQ Ev X rm_X4_joins (pM Ev .int o a h n rv rS rA)) 7 [(0, .ref o), (1, .int x1), (2, .int x2), (3, .int x3), (4, .int x4), (5, .int y5_l7_1), (6, .int y6_l7_1)] [] := by
    intro k_l7_1
    induction k_l7_1 with
    | zero => intro y5_l7_1 y6_l7_1 S_l7_1 A_l7_1 h_l7_1 hM hF hf; cases hf
    | succ k_l7_1 ih_l7_1 =>
      intro y5_l7_1 y6_l7_1 S_l7_1 A_l7_1 h_l7_1 hM hF hf
      rw [f_X4_joins_l7_1] at hf
      refine rb_iload C dX4_joins_7 6 rfl ?_
      refine rb_aload_n C dX4_joins_9 rfl 0 rfl ?_
      refine rb_get (v := .ref (a 29)) C fl_X4_63_X4 (Or.inl hM.1) rfl dX4_joins_10 ?_
      refine rb_iload_n C dX4_joins_13 rfl 1 rfl ?_
      by_cases c_g : (x1 < 0 ∨ 64 ≤ x1.toNatClampNeg)
      · exact absurd ((if_pos c_g).symm.trans hf) (fun z => by cases z)
      have hf := (if_neg c_g).symm.trans hf
      refine rb_iald (f := (A_l7_1 29)) C (Or.inl (hM.2.1 29 rfl)) (rb_nN c_g) dX4_joins_14 ?_
      refine rb_icmp_ge (tgt := 86) C dX4_joins_15 (by decide) (fun c_2 => ?_) (fun c_2 => ?_)
      · have hf := (if_pos c_2).symm.trans hf
        refine rb_iload C dX4_joins_86 5 rfl ?_
        cases hf
        exact rb_iret C rfl rfl (Nat.zero_le _) (Nat.zero_le _) dX4_joins_88 ⟨rfl, rfl, hM, hF, rfl⟩
      · have hf := (if_neg c_2).symm.trans hf
        refine rb_iconst (v := 0) C dX4_joins_18 rfl ?_
        refine rb_istore (lv' := [(7, .int 0), (0, .ref o), (1, .int x1), (2, .int x2), (3, .int x3), (4, .int x4), (5, .int y5_l7_1), (6, .int y6_l7_1)]) C dX4_joins_19 (by decide) rfl ?_
        have L_l21_3 : ∀ (k_l21_3 : Nat) (y5_l21_3 : Int32) (y7_l21_3 : Int32) (S_l21_3 : Nat → Int32) (A_l21_3 : Nat → Nat → Int32) (h_l21_3 : AH), MD Ev h_l21_3 o a S_l21_3 A_l21_3 → mdFr h h_l21_3 o a → f_X4_joins_l21_3 x1 x2 x3 y6_l7_1 (f_X4_joins_l7_1 x1 x2 x3 k_l7_1) k_l21_3 y5_l21_3 y7_l21_3 S_l21_3 A_l21_3 = some (rv, rS, rA) → Wa Ev X rm_X4_joins 8 h_l21_3 n 0 0 (rb_MQ Ev X rm_X4_joins (pM Ev .int o a h n rv rS rA)) 21 [(0, .ref o), (1, .int x1), (2, .int x2), (3, .int x3), (4, .int x4), (5, .int y5_l21_3), (6, .int y6_l7_1), (7, .int y7_l21_3)] [] := by
          intro k_l21_3
          induction k_l21_3 with
          | zero => intro y5_l21_3 y7_l21_3 S_l21_3 A_l21_3 h_l21_3 hM hF hf; cases hf
          | succ k_l21_3 ih_l21_3 =>
            intro y5_l21_3 y7_l21_3 S_l21_3 A_l21_3 h_l21_3 hM hF hf
            rw [f_X4_joins_l21_3] at hf
            refine rb_iload C dX4_joins_21 7 rfl ?_
            refine rb_aload_n C dX4_joins_23 rfl 0 rfl ?_
            refine rb_get (v := .ref (a 29)) C fl_X4_63_X4 (Or.inl hM.1) rfl dX4_joins_24 ?_
            refine rb_iload_n C dX4_joins_27 rfl 2 rfl ?_
            by_cases c_g : (x2 < 0 ∨ 64 ≤ x2.toNatClampNeg)
            · exact absurd ((if_pos c_g).symm.trans hf) (fun z => by cases z)
            have hf := (if_neg c_g).symm.trans hf
            refine rb_iald (f := (A_l21_3 29)) C (Or.inl (hM.2.1 29 rfl)) (rb_nN c_g) dX4_joins_28 ?_
            refine rb_icmp_ge (tgt := 80) C dX4_joins_29 (by decide) (fun c_4 => ?_) (fun c_4 => ?_)
            · have hf := (if_pos c_4).symm.trans hf
              refine rb_iinc (v := (y6_l7_1 + 1)) (lv' := [(6, .int (y6_l7_1 + 1)), (0, .ref o), (1, .int x1), (2, .int x2), (3, .int x3), (4, .int x4), (5, .int y5_l21_3), (7, .int y7_l21_3)]) C dX4_joins_80 (k := 6) rfl rfl (by decide) rfl ?_
              refine rb_goto (tgt := 7) C dX4_joins_83 (by decide) ?_
              refine rb_sub [1, 2, 3, 4, 5, 6, 0] rfl ?_
              exact ih_l7_1 y5_l21_3 (y6_l7_1 + 1) S_l21_3 A_l21_3 h_l21_3 hM hF hf
            · have hf := (if_neg c_4).symm.trans hf
              refine rb_aload_n C dX4_joins_32 rfl 0 rfl ?_
              refine rb_get (v := .ref (a 27)) C fl_X4_57_X4 (Or.inl hM.1) rfl dX4_joins_33 ?_
              refine rb_iload C dX4_joins_36 5 rfl ?_
              refine rb_iload_n C dX4_joins_38 rfl 3 rfl ?_
              refine rb_aload_n C dX4_joins_39 rfl 0 rfl ?_
              refine rb_get (v := .ref (a 27)) C fl_X4_57_X4 (Or.inl hM.1) rfl dX4_joins_40 ?_
              refine rb_aload_n C dX4_joins_43 rfl 0 rfl ?_
              refine rb_get (v := .ref (a 28)) C fl_X4_60_X4 (Or.inl hM.1) rfl dX4_joins_44 ?_
              refine rb_iload_n C dX4_joins_47 rfl 1 rfl ?_
              by_cases c_g : (x1 < 0 ∨ 64 ≤ x1.toNatClampNeg)
              · exact absurd ((if_pos c_g).symm.trans hf) (fun z => by cases z)
              have hf := (if_neg c_g).symm.trans hf
              refine rb_iald (f := (A_l21_3 28)) C (Or.inl (hM.2.1 28 rfl)) (rb_nN c_g) dX4_joins_48 ?_
              refine rb_iload C dX4_joins_49 6 rfl ?_
              refine rb_iadd C dX4_joins_51 ?_
              by_cases c_g : ((((A_l21_3 28) x1.toNatClampNeg) + y6_l7_1) < 0 ∨ 1000 ≤ (((A_l21_3 28) x1.toNatClampNeg) + y6_l7_1).toNatClampNeg)
              · exact absurd ((if_pos c_g).symm.trans hf) (fun z => by cases z)
              have hf := (if_neg c_g).symm.trans hf
              refine rb_iald (f := (A_l21_3 27)) C (Or.inl (hM.2.1 27 rfl)) (rb_nN c_g) dX4_joins_52 ?_
              refine rb_aload_n C dX4_joins_53 rfl 0 rfl ?_
              refine rb_get (v := .ref (a 27)) C fl_X4_57_X4 (Or.inl hM.1) rfl dX4_joins_54 ?_
              refine rb_aload_n C dX4_joins_57 rfl 0 rfl ?_
              refine rb_get (v := .ref (a 28)) C fl_X4_60_X4 (Or.inl hM.1) rfl dX4_joins_58 ?_
              refine rb_iload_n C dX4_joins_61 rfl 2 rfl ?_
              by_cases c_g : (x2 < 0 ∨ 64 ≤ x2.toNatClampNeg)
              · exact absurd ((if_pos c_g).symm.trans hf) (fun z => by cases z)
              have hf := (if_neg c_g).symm.trans hf
              refine rb_iald (f := (A_l21_3 28)) C (Or.inl (hM.2.1 28 rfl)) (rb_nN c_g) dX4_joins_62 ?_
              refine rb_iload C dX4_joins_63 7 rfl ?_
              refine rb_iadd C dX4_joins_65 ?_
              by_cases c_g : ((((A_l21_3 28) x2.toNatClampNeg) + y7_l21_3) < 0 ∨ 1000 ≤ (((A_l21_3 28) x2.toNatClampNeg) + y7_l21_3).toNatClampNeg)
              · exact absurd ((if_pos c_g).symm.trans hf) (fun z => by cases z)
              have hf := (if_neg c_g).symm.trans hf
              refine rb_iald (f := (A_l21_3 27)) C (Or.inl (hM.2.1 27 rfl)) (rb_nN c_g) dX4_joins_66 ?_
              refine rb_zSR C mi_X4_makes ss_X4_158 (ct_X4_makes Ev h_l21_3 n x3 ((A_l21_3 27) (((A_l21_3 28) x1.toNatClampNeg) + y6_l7_1).toNatClampNeg) ((A_l21_3 27) (((A_l21_3 28) x2.toNatClampNeg) + y7_l21_3).toNatClampNeg) _ rfl) (rest := [.int y5_l21_3, .ref (a 27)]) rfl rfl (Nat.le_of_ble_eq_true rfl) ⟨Nat.le_of_ble_eq_true rfl, Nat.le_of_ble_eq_true rfl⟩ ⟨Nat.zero_le _, Nat.zero_le _⟩ dX4_joins_67 (fun hn_5 => ?_)
              by_cases c_g : (y5_l21_3 < 0 ∨ 1000 ≤ y5_l21_3.toNatClampNeg)
              · exact absurd ((if_pos c_g).symm.trans hf) (fun z => by cases z)
              have hf := (if_neg c_g).symm.trans hf
              refine rb_iast (f := (A_l21_3 27)) C (hM.2.1 27 rfl) (rb_nN c_g) dX4_joins_70 (fun h_6 e1 e2 => ?_)
              have hM : MD Ev h_6 o a S_l21_3 (va_up A_l21_3 27 (upd (A_l21_3 27) y5_l21_3.toNatClampNeg (f_X4_makes x3 ((A_l21_3 27) (((A_l21_3 28) x1.toNatClampNeg) + y6_l7_1).toNatClampNeg) ((A_l21_3 27) (((A_l21_3 28) x2.toNatClampNeg) + y7_l21_3).toNatClampNeg)))) := hM.ast 27 rfl e1 e2
              have hF := hF.ast 27 rfl e2
              refine rb_iinc (v := (y5_l21_3 + 1)) (lv' := [(5, .int (y5_l21_3 + 1)), (0, .ref o), (1, .int x1), (2, .int x2), (3, .int x3), (4, .int x4), (6, .int y6_l7_1), (7, .int y7_l21_3)]) C dX4_joins_71 (k := 5) rfl rfl (by decide) rfl ?_
              refine rb_iinc (v := (y7_l21_3 + 1)) (lv' := [(7, .int (y7_l21_3 + 1)), (5, .int (y5_l21_3 + 1)), (0, .ref o), (1, .int x1), (2, .int x2), (3, .int x3), (4, .int x4), (6, .int y6_l7_1)]) C dX4_joins_74 (k := 7) rfl rfl (by decide) rfl ?_
              refine rb_goto (tgt := 21) C dX4_joins_77 (by decide) ?_
              refine rb_sub [2, 3, 4, 5, 6, 1, 7, 0] rfl ?_
              exact ih_l21_3 (y5_l21_3 + 1) (y7_l21_3 + 1) S_l21_3 (va_up A_l21_3 27 (upd (A_l21_3 27) y5_l21_3.toNatClampNeg (f_X4_makes x3 ((A_l21_3 27) (((A_l21_3 28) x1.toNatClampNeg) + y6_l7_1).toNatClampNeg) ((A_l21_3 27) (((A_l21_3 28) x2.toNatClampNeg) + y7_l21_3).toNatClampNeg)))) h_6 hM hF hf
        refine rb_sub [1, 2, 3, 4, 5, 6, 7, 0] rfl ?_
        exact L_l21_3 4096 y5_l7_1 0 S_l7_1 A_l7_1 h_l7_1 hM hF hf
  refine rb_sub [2, 3, 4, 5, 6, 1, 0] rfl ?_
  exact L_l7_1 4096 x4 0 S A h hM hF hf
def f_X4_brackets_l69_14 (y2_l8_7 : Int32) (y3_l18_9 : Int32) (rec_l18_9 : Int32 → Int32 → (Nat → Int32) → (Nat → Nat → Int32) → Option (Int32 × (Nat → Int32) × (Nat → Nat → Int32))) : Nat → Int32 → Int32 → (Nat → Int32) → (Nat → Nat → Int32) → Option (Int32 × (Nat → Int32) × (Nat → Nat → Int32))
  | 0, _, _, _, _ => none
  | k_l69_14 + 1, y1_l69_14, y5_l69_14, S_l69_14, A_l69_14 => (if y2_l8_7 ≤ y5_l69_14 then if ((((8 * y3_l18_9) + y2_l8_7) - 1) < 0 ∨ 64 ≤ (((8 * y3_l18_9) + y2_l8_7) - 1).toNatClampNeg) then none else if ((((8 * y3_l18_9) + y2_l8_7) - 1) < 0 ∨ 64 ≤ (((8 * y3_l18_9) + y2_l8_7) - 1).toNatClampNeg) then none else (rec_l18_9 y1_l69_14 (y3_l18_9 + 1) S_l69_14 (va_up A_l69_14 29 (upd (A_l69_14 29) (((8 * y3_l18_9) + y2_l8_7) - 1).toNatClampNeg (y1_l69_14 - ((A_l69_14 28) (((8 * y3_l18_9) + y2_l8_7) - 1).toNatClampNeg))))) else if ((y3_l18_9 + y5_l69_14) < 0 ∨ 8 ≤ (y3_l18_9 + y5_l69_14).toNatClampNeg) then none else ((f_X4_joins S_l69_14 A_l69_14 (((8 * y3_l18_9) + y5_l69_14) - 1) ((((8 * (y3_l18_9 + y5_l69_14)) + y2_l8_7) - y5_l69_14) - 1) ((A_l69_14 25) (y3_l18_9 + y5_l69_14).toNatClampNeg) y1_l69_14).bind fun (v_22, S_19, A_20) => ((f_X4_brackets_l69_14 y2_l8_7 y3_l18_9 rec_l18_9 k_l69_14) v_22 (y5_l69_14 + 1) S_19 A_20)))
def f_X4_brackets_j66_13 (y2_l8_7 : Int32) (y3_l18_9 : Int32) (rec_l18_9 : Int32 → Int32 → (Nat → Int32) → (Nat → Nat → Int32) → Option (Int32 × (Nat → Int32) × (Nat → Nat → Int32))) (y1_j66_13 : Int32) (S_j66_13 : Nat → Int32) (A_j66_13 : Nat → Nat → Int32) : Option (Int32 × (Nat → Int32) × (Nat → Nat → Int32)) := (f_X4_brackets_l69_14 y2_l8_7 y3_l18_9 rec_l18_9 4096 y1_j66_13 1 S_j66_13 A_j66_13)
def f_X4_brackets_l18_9 (y2_l8_7 : Int32) (rec_l8_7 : Int32 → Int32 → (Nat → Int32) → (Nat → Nat → Int32) → Option (Int32 × (Nat → Int32) × (Nat → Nat → Int32))) : Nat → Int32 → Int32 → (Nat → Int32) → (Nat → Nat → Int32) → Option (Int32 × (Nat → Int32) × (Nat → Nat → Int32))
  | 0, _, _, _, _ => none
  | k_l18_9 + 1, y1_l18_9, y3_l18_9, S_l18_9, A_l18_9 => (if (S_l18_9 26) < (y3_l18_9 + y2_l8_7) then (rec_l8_7 y1_l18_9 (y2_l8_7 + 1) S_l18_9 A_l18_9) else if ((((8 * y3_l18_9) + y2_l8_7) - 1) < 0 ∨ 64 ≤ (((8 * y3_l18_9) + y2_l8_7) - 1).toNatClampNeg) then none else (if y2_l8_7 = 1 then if (y3_l18_9 < 0 ∨ 8 ≤ y3_l18_9.toNatClampNeg) then none else if (y1_l18_9 < 0 ∨ 1000 ≤ y1_l18_9.toNatClampNeg) then none else (f_X4_brackets_j66_13 y2_l8_7 y3_l18_9 (f_X4_brackets_l18_9 y2_l8_7 rec_l8_7 k_l18_9) (y1_l18_9 + 1) S_l18_9 (va_up (va_up A_l18_9 28 (upd (A_l18_9 28) (((8 * y3_l18_9) + y2_l8_7) - 1).toNatClampNeg y1_l18_9)) 27 (upd (A_l18_9 27) y1_l18_9.toNatClampNeg ((A_l18_9 24) y3_l18_9.toNatClampNeg)))) else (f_X4_brackets_j66_13 y2_l8_7 y3_l18_9 (f_X4_brackets_l18_9 y2_l8_7 rec_l8_7 k_l18_9) y1_l18_9 S_l18_9 (va_up A_l18_9 28 (upd (A_l18_9 28) (((8 * y3_l18_9) + y2_l8_7) - 1).toNatClampNeg y1_l18_9)))))
def f_X4_brackets_l8_7  : Nat → Int32 → Int32 → (Nat → Int32) → (Nat → Nat → Int32) → Option (Int32 × (Nat → Int32) × (Nat → Nat → Int32))
  | 0, _, _, _, _ => none
  | k_l8_7 + 1, y1_l8_7, y2_l8_7, S_l8_7, A_l8_7 => (if (S_l8_7 26) < y2_l8_7 then if (((S_l8_7 26) - 1) < 0 ∨ 64 ≤ ((S_l8_7 26) - 1).toNatClampNeg) then none else (some (((A_l8_7 29) ((S_l8_7 26) - 1).toNatClampNeg), S_l8_7, A_l8_7)) else (f_X4_brackets_l18_9 y2_l8_7 (f_X4_brackets_l8_7  k_l8_7) 4096 y1_l8_7 0 S_l8_7 A_l8_7))
def f_X4_brackets (S : Nat → Int32) (A : Nat → Nat → Int32) : Option (Int32 × (Nat → Int32) × (Nat → Nat → Int32)) := ((f_X4_rows S A ).bind fun (S_3, A_4) => (f_X4_brackets_l8_7  4096 0 1 S_3 A_4))
abbrev rm_X4_brackets : Room := { frames := 4, cells := 0, slots := 0, locals := 84 }
set_option maxHeartbeats 4000000 in
theorem ct_X4_brackets (Ev : rb_E) (h : AH) (n : Nat) (o : Nat) (a : Nat → Nat) (S : Nat → Int32) (A : Nat → Nat → Int32)  (rv : Int32) (rS : Nat → Int32) (rA : Nat → Nat → Int32) (hM : MD Ev h o a S A) (hf : f_X4_brackets S A = some (rv, rS, rA)) : Ct Ev yX4_brackets (ws_ yX4_brackets cX4_brackets 6 (some .int)) rm_X4_brackets [.ref o] h n (pM Ev .int o a h n rv rS rA) := by
  refine Ct.of rfl (Nat.le_of_ble_eq_true rfl) fun X C hnm => ?_
  have C : Cx Ev X RX4 cX4_brackets 6 (some .int) [] := C
  show Wa Ev X rm_X4_brackets 6 h n 0 0 (rb_MQ Ev X rm_X4_brackets (pM Ev .int o a h n rv rS rA)) 0 [(0, .ref o)] []
  have hF : mdFr h h o a := mdFr.rf
  rw [f_X4_brackets] at hf
  refine rb_aload_n C dX4_brackets_0 rfl 0 rfl ?_
  obtain ⟨⟨S_3, A_4⟩, e_2, hf⟩ := rb_bd hf
  refine rb_zVMv C mi_X4_rows sv_X4_223 (IsC.of (Or.inl hM.1) ck_X4) (ct_X4_rows Ev h n o a S A  _ _ hM e_2) (rest := []) rfl rfl (Nat.le_of_ble_eq_true rfl) ⟨Nat.le_of_ble_eq_true rfl, Nat.le_of_ble_eq_true rfl⟩ ⟨Nat.zero_le _, Nat.zero_le _⟩ dX4_brackets_1 (fun h_5 hM hF1 => ?_)
  have hF := hF.tr hF1
  refine rb_iconst (v := 0) C dX4_brackets_4 rfl ?_
  refine rb_istore_n (lv' := [(1, .int 0), (0, .ref o)]) C dX4_brackets_5 rfl (by decide) rfl ?_
  refine rb_iconst (v := 1) C dX4_brackets_6 rfl ?_
  refine rb_istore_n (lv' := [(2, .int 1), (1, .int 0), (0, .ref o)]) C dX4_brackets_7 rfl (by decide) rfl ?_
  have L_l8_7 : ∀ (k_l8_7 : Nat) (y1_l8_7 : Int32) (y2_l8_7 : Int32) (S_l8_7 : Nat → Int32) (A_l8_7 : Nat → Nat → Int32) (h_l8_7 : AH), MD Ev h_l8_7 o a S_l8_7 A_l8_7 → mdFr h h_l8_7 o a → f_X4_brackets_l8_7  k_l8_7 y1_l8_7 y2_l8_7 S_l8_7 A_l8_7 = some (rv, rS, rA) → Wa Ev X rm_X4_brackets 6 h_l8_7 n 0 0 (rb_MQ Ev X rm_X4_brackets (pM Ev .int o a h n rv rS rA)) 8 [(0, .ref o), (1, .int y1_l8_7), (2, .int y2_l8_7)] [] := by
    intro k_l8_7
    induction k_l8_7 with
    | zero => intro y1_l8_7 y2_l8_7 S_l8_7 A_l8_7 h_l8_7 hM hF hf; cases hf
    | succ k_l8_7 ih_l8_7 =>
      intro y1_l8_7 y2_l8_7 S_l8_7 A_l8_7 h_l8_7 hM hF hf
      rw [f_X4_brackets_l8_7] at hf
      refine rb_iload_n C dX4_brackets_8 rfl 2 rfl ?_
      refine rb_aload_n C dX4_brackets_9 rfl 0 rfl ?_
      refine rb_get (v := .int (S_l8_7 26)) C fl_X4_220_X4 (Or.inl hM.1) rfl dX4_brackets_10 ?_
      refine rb_icmp_gt (tgt := 147) C dX4_brackets_13 (by decide) (fun c_8 => ?_) (fun c_8 => ?_)
      · have hf := (if_pos c_8).symm.trans hf
        refine rb_aload_n C dX4_brackets_147 rfl 0 rfl ?_
        refine rb_get (v := .ref (a 29)) C fl_X4_63_X4 (Or.inl hM.1) rfl dX4_brackets_148 ?_
        refine rb_aload_n C dX4_brackets_151 rfl 0 rfl ?_
        refine rb_get (v := .int (S_l8_7 26)) C fl_X4_220_X4 (Or.inl hM.1) rfl dX4_brackets_152 ?_
        refine rb_iconst (v := 1) C dX4_brackets_155 rfl ?_
        refine rb_isub C dX4_brackets_156 ?_
        by_cases c_g : (((S_l8_7 26) - 1) < 0 ∨ 64 ≤ ((S_l8_7 26) - 1).toNatClampNeg)
        · exact absurd ((if_pos c_g).symm.trans hf) (fun z => by cases z)
        have hf := (if_neg c_g).symm.trans hf
        refine rb_iald (f := (A_l8_7 29)) C (Or.inl (hM.2.1 29 rfl)) (rb_nN c_g) dX4_brackets_157 ?_
        cases hf
        exact rb_iret C rfl rfl (Nat.zero_le _) (Nat.zero_le _) dX4_brackets_158 ⟨rfl, rfl, hM, hF, rfl⟩
      · have hf := (if_neg c_8).symm.trans hf
        refine rb_iconst (v := 0) C dX4_brackets_16 rfl ?_
        refine rb_istore_n (lv' := [(3, .int 0), (0, .ref o), (1, .int y1_l8_7), (2, .int y2_l8_7)]) C dX4_brackets_17 rfl (by decide) rfl ?_
        have L_l18_9 : ∀ (k_l18_9 : Nat) (y1_l18_9 : Int32) (y3_l18_9 : Int32) (S_l18_9 : Nat → Int32) (A_l18_9 : Nat → Nat → Int32) (h_l18_9 : AH), MD Ev h_l18_9 o a S_l18_9 A_l18_9 → mdFr h h_l18_9 o a → f_X4_brackets_l18_9 y2_l8_7 (f_X4_brackets_l8_7  k_l8_7) k_l18_9 y1_l18_9 y3_l18_9 S_l18_9 A_l18_9 = some (rv, rS, rA) → Wa Ev X rm_X4_brackets 6 h_l18_9 n 0 0 (rb_MQ Ev X rm_X4_brackets (pM Ev .int o a h n rv rS rA)) 18 [(0, .ref o), (1, .int y1_l18_9), (2, .int y2_l8_7), (3, .int y3_l18_9)] [] := by
          intro k_l18_9
          induction k_l18_9 with
          | zero => intro y1_l18_9 y3_l18_9 S_l18_9 A_l18_9 h_l18_9 hM hF hf; cases hf
          | succ k_l18_9 ih_l18_9 =>
            intro y1_l18_9 y3_l18_9 S_l18_9 A_l18_9 h_l18_9 hM hF hf
            rw [f_X4_brackets_l18_9] at hf
            refine rb_iload_n C dX4_brackets_18 rfl 3 rfl ?_
            refine rb_iload_n C dX4_brackets_19 rfl 2 rfl ?_
            refine rb_iadd C dX4_brackets_20 ?_
            refine rb_aload_n C dX4_brackets_21 rfl 0 rfl ?_
            refine rb_get (v := .int (S_l18_9 26)) C fl_X4_220_X4 (Or.inl hM.1) rfl dX4_brackets_22 ?_
            refine rb_icmp_gt (tgt := 141) C dX4_brackets_25 (by decide) (fun c_10 => ?_) (fun c_10 => ?_)
            · have hf := (if_pos c_10).symm.trans hf
              refine rb_iinc (v := (y2_l8_7 + 1)) (lv' := [(2, .int (y2_l8_7 + 1)), (0, .ref o), (1, .int y1_l18_9), (3, .int y3_l18_9)]) C dX4_brackets_141 (k := 2) rfl rfl (by decide) rfl ?_
              refine rb_goto (tgt := 8) C dX4_brackets_144 (by decide) ?_
              refine rb_sub [1, 2, 0] rfl ?_
              exact ih_l8_7 y1_l18_9 (y2_l8_7 + 1) S_l18_9 A_l18_9 h_l18_9 hM hF hf
            · have hf := (if_neg c_10).symm.trans hf
              refine rb_bipush (v := 8) C dX4_brackets_28 rfl ?_
              refine rb_iload_n C dX4_brackets_30 rfl 3 rfl ?_
              refine rb_imul C dX4_brackets_31 ?_
              refine rb_iload_n C dX4_brackets_32 rfl 2 rfl ?_
              refine rb_iadd C dX4_brackets_33 ?_
              refine rb_iconst (v := 1) C dX4_brackets_34 rfl ?_
              refine rb_isub C dX4_brackets_35 ?_
              refine rb_istore (lv' := [(4, .int (((8 * y3_l18_9) + y2_l8_7) - 1)), (0, .ref o), (1, .int y1_l18_9), (2, .int y2_l8_7), (3, .int y3_l18_9)]) C dX4_brackets_36 (by decide) rfl ?_
              refine rb_aload_n C dX4_brackets_38 rfl 1 rfl ?_
              refine rb_get (v := .ref (a 28)) C fl_X4_60_X4 (Or.inl hM.1) rfl dX4_brackets_39 ?_
              refine rb_iload C dX4_brackets_42 0 rfl ?_
              refine rb_iload_n C dX4_brackets_44 rfl 2 rfl ?_
              by_cases c_g : ((((8 * y3_l18_9) + y2_l8_7) - 1) < 0 ∨ 64 ≤ (((8 * y3_l18_9) + y2_l8_7) - 1).toNatClampNeg)
              · exact absurd ((if_pos c_g).symm.trans hf) (fun z => by cases z)
              have hf := (if_neg c_g).symm.trans hf
              refine rb_iast (f := (A_l18_9 28)) C (hM.2.1 28 rfl) (rb_nN c_g) dX4_brackets_45 (fun h_11 e1 e2 => ?_)
              have hM : MD Ev h_11 o a S_l18_9 (va_up A_l18_9 28 (upd (A_l18_9 28) (((8 * y3_l18_9) + y2_l8_7) - 1).toNatClampNeg y1_l18_9)) := hM.ast 28 rfl e1 e2
              have hF := hF.ast 28 rfl e2
              refine rb_iload_n C dX4_brackets_46 rfl 3 rfl ?_
              refine rb_iconst (v := 1) C dX4_brackets_47 rfl ?_
              have J_j66_13 : ∀ (y1_j66_13 : Int32) (S_j66_13 : Nat → Int32) (A_j66_13 : Nat → Nat → Int32) (h_j66_13 : AH), MD Ev h_j66_13 o a S_j66_13 A_j66_13 → mdFr h h_j66_13 o a → f_X4_brackets_j66_13 y2_l8_7 y3_l18_9 (f_X4_brackets_l18_9 y2_l8_7 (f_X4_brackets_l8_7  k_l8_7) k_l18_9) y1_j66_13 S_j66_13 A_j66_13 = some (rv, rS, rA) → Wa Ev X rm_X4_brackets 6 h_j66_13 n 0 0 (rb_MQ Ev X rm_X4_brackets (pM Ev .int o a h n rv rS rA)) 66 [(0, .ref o), (1, .int y1_j66_13), (2, .int y2_l8_7), (3, .int y3_l18_9), (4, .int (((8 * y3_l18_9) + y2_l8_7) - 1))] [] := by
                intro y1_j66_13 S_j66_13 A_j66_13 h_j66_13 hM hF hf
                rw [f_X4_brackets_j66_13] at hf
                refine rb_iconst (v := 1) C dX4_brackets_66 rfl ?_
                refine rb_istore (lv' := [(5, .int 1), (0, .ref o), (1, .int y1_j66_13), (2, .int y2_l8_7), (3, .int y3_l18_9), (4, .int (((8 * y3_l18_9) + y2_l8_7) - 1))]) C dX4_brackets_67 (by decide) rfl ?_
                have L_l69_14 : ∀ (k_l69_14 : Nat) (y1_l69_14 : Int32) (y5_l69_14 : Int32) (S_l69_14 : Nat → Int32) (A_l69_14 : Nat → Nat → Int32) (h_l69_14 : AH), MD Ev h_l69_14 o a S_l69_14 A_l69_14 → mdFr h h_l69_14 o a → f_X4_brackets_l69_14 y2_l8_7 y3_l18_9 (f_X4_brackets_l18_9 y2_l8_7 (f_X4_brackets_l8_7  k_l8_7) k_l18_9) k_l69_14 y1_l69_14 y5_l69_14 S_l69_14 A_l69_14 = some (rv, rS, rA) → Wa Ev X rm_X4_brackets 6 h_l69_14 n 0 0 (rb_MQ Ev X rm_X4_brackets (pM Ev .int o a h n rv rS rA)) 69 [(0, .ref o), (1, .int y1_l69_14), (2, .int y2_l8_7), (3, .int y3_l18_9), (4, .int (((8 * y3_l18_9) + y2_l8_7) - 1)), (5, .int y5_l69_14)] [] := by
                  intro k_l69_14
                  induction k_l69_14 with
                  | zero => intro y1_l69_14 y5_l69_14 S_l69_14 A_l69_14 h_l69_14 hM hF hf; cases hf
                  | succ k_l69_14 ih_l69_14 =>
                    intro y1_l69_14 y5_l69_14 S_l69_14 A_l69_14 h_l69_14 hM hF hf
                    rw [f_X4_brackets_l69_14] at hf
                    refine rb_iload C dX4_brackets_69 5 rfl ?_
                    refine rb_iload_n C dX4_brackets_71 rfl 2 rfl ?_
                    refine rb_icmp_ge (tgt := 119) C dX4_brackets_72 (by decide) (fun c_15 => ?_) (fun c_15 => ?_)
                    · have hf := (if_pos c_15).symm.trans hf
                      refine rb_aload_n C dX4_brackets_119 rfl 0 rfl ?_
                      refine rb_get (v := .ref (a 29)) C fl_X4_63_X4 (Or.inl hM.1) rfl dX4_brackets_120 ?_
                      refine rb_iload C dX4_brackets_123 4 rfl ?_
                      refine rb_iload_n C dX4_brackets_125 rfl 1 rfl ?_
                      refine rb_aload_n C dX4_brackets_126 rfl 0 rfl ?_
                      refine rb_get (v := .ref (a 28)) C fl_X4_60_X4 (Or.inl hM.1) rfl dX4_brackets_127 ?_
                      refine rb_iload C dX4_brackets_130 4 rfl ?_
                      by_cases c_g : ((((8 * y3_l18_9) + y2_l8_7) - 1) < 0 ∨ 64 ≤ (((8 * y3_l18_9) + y2_l8_7) - 1).toNatClampNeg)
                      · exact absurd ((if_pos c_g).symm.trans hf) (fun z => by cases z)
                      have hf := (if_neg c_g).symm.trans hf
                      refine rb_iald (f := (A_l69_14 28)) C (Or.inl (hM.2.1 28 rfl)) (rb_nN c_g) dX4_brackets_132 ?_
                      refine rb_isub C dX4_brackets_133 ?_
                      by_cases c_g : ((((8 * y3_l18_9) + y2_l8_7) - 1) < 0 ∨ 64 ≤ (((8 * y3_l18_9) + y2_l8_7) - 1).toNatClampNeg)
                      · exact absurd ((if_pos c_g).symm.trans hf) (fun z => by cases z)
                      have hf := (if_neg c_g).symm.trans hf
                      refine rb_iast (f := (A_l69_14 29)) C (hM.2.1 29 rfl) (rb_nN c_g) dX4_brackets_134 (fun h_16 e1 e2 => ?_)
                      have hM : MD Ev h_16 o a S_l69_14 (va_up A_l69_14 29 (upd (A_l69_14 29) (((8 * y3_l18_9) + y2_l8_7) - 1).toNatClampNeg (y1_l69_14 - ((A_l69_14 28) (((8 * y3_l18_9) + y2_l8_7) - 1).toNatClampNeg)))) := hM.ast 29 rfl e1 e2
                      have hF := hF.ast 29 rfl e2
                      refine rb_iinc (v := (y3_l18_9 + 1)) (lv' := [(3, .int (y3_l18_9 + 1)), (0, .ref o), (1, .int y1_l69_14), (2, .int y2_l8_7), (4, .int (((8 * y3_l18_9) + y2_l8_7) - 1)), (5, .int y5_l69_14)]) C dX4_brackets_135 (k := 3) rfl rfl (by decide) rfl ?_
                      refine rb_goto (tgt := 18) C dX4_brackets_138 (by decide) ?_
                      refine rb_sub [1, 2, 3, 0] rfl ?_
                      exact ih_l18_9 y1_l69_14 (y3_l18_9 + 1) S_l69_14 (va_up A_l69_14 29 (upd (A_l69_14 29) (((8 * y3_l18_9) + y2_l8_7) - 1).toNatClampNeg (y1_l69_14 - ((A_l69_14 28) (((8 * y3_l18_9) + y2_l8_7) - 1).toNatClampNeg)))) h_16 hM hF hf
                    · have hf := (if_neg c_15).symm.trans hf
                      refine rb_aload_n C dX4_brackets_75 rfl 0 rfl ?_
                      refine rb_bipush (v := 8) C dX4_brackets_76 rfl ?_
                      refine rb_iload_n C dX4_brackets_78 rfl 3 rfl ?_
                      refine rb_imul C dX4_brackets_79 ?_
                      refine rb_iload C dX4_brackets_80 5 rfl ?_
                      refine rb_iadd C dX4_brackets_82 ?_
                      refine rb_iconst (v := 1) C dX4_brackets_83 rfl ?_
                      refine rb_isub C dX4_brackets_84 ?_
                      refine rb_bipush (v := 8) C dX4_brackets_85 rfl ?_
                      refine rb_iload_n C dX4_brackets_87 rfl 3 rfl ?_
                      refine rb_iload C dX4_brackets_88 5 rfl ?_
                      refine rb_iadd C dX4_brackets_90 ?_
                      refine rb_imul C dX4_brackets_91 ?_
                      refine rb_iload_n C dX4_brackets_92 rfl 2 rfl ?_
                      refine rb_iadd C dX4_brackets_93 ?_
                      refine rb_iload C dX4_brackets_94 5 rfl ?_
                      refine rb_isub C dX4_brackets_96 ?_
                      refine rb_iconst (v := 1) C dX4_brackets_97 rfl ?_
                      refine rb_isub C dX4_brackets_98 ?_
                      refine rb_aload_n C dX4_brackets_99 rfl 0 rfl ?_
                      refine rb_get (v := .ref (a 25)) C fl_X4_54_X4 (Or.inl hM.1) rfl dX4_brackets_100 ?_
                      refine rb_iload_n C dX4_brackets_103 rfl 3 rfl ?_
                      refine rb_iload C dX4_brackets_104 5 rfl ?_
                      refine rb_iadd C dX4_brackets_106 ?_
                      by_cases c_g : ((y3_l18_9 + y5_l69_14) < 0 ∨ 8 ≤ (y3_l18_9 + y5_l69_14).toNatClampNeg)
                      · exact absurd ((if_pos c_g).symm.trans hf) (fun z => by cases z)
                      have hf := (if_neg c_g).symm.trans hf
                      refine rb_iald (f := (A_l69_14 25)) C (Or.inl (hM.2.1 25 rfl)) (rb_nN c_g) dX4_brackets_107 ?_
                      refine rb_iload_n C dX4_brackets_108 rfl 1 rfl ?_
                      obtain ⟨⟨v_22, S_19, A_20⟩, e_18, hf⟩ := rb_bd hf
                      refine rb_zVM C mi_X4_joins sv_X4_226 (IsC.of (Or.inl hM.1) ck_X4) (ct_X4_joins Ev h_l69_14 n o a S_l69_14 A_l69_14 (((8 * y3_l18_9) + y5_l69_14) - 1) ((((8 * (y3_l18_9 + y5_l69_14)) + y2_l8_7) - y5_l69_14) - 1) ((A_l69_14 25) (y3_l18_9 + y5_l69_14).toNatClampNeg) y1_l69_14 _ _ _ hM e_18) (rest := []) rfl rfl (Nat.le_of_ble_eq_true rfl) ⟨Nat.le_of_ble_eq_true rfl, Nat.le_of_ble_eq_true rfl⟩ ⟨Nat.zero_le _, Nat.zero_le _⟩ dX4_brackets_109 (fun h_21 hM hF1 hn_23 => ?_)
                      have hF := hF.tr hF1
                      refine rb_istore_n (lv' := [(1, .int v_22), (0, .ref o), (2, .int y2_l8_7), (3, .int y3_l18_9), (4, .int (((8 * y3_l18_9) + y2_l8_7) - 1)), (5, .int y5_l69_14)]) C dX4_brackets_112 rfl (by decide) rfl ?_
                      refine rb_iinc (v := (y5_l69_14 + 1)) (lv' := [(5, .int (y5_l69_14 + 1)), (1, .int v_22), (0, .ref o), (2, .int y2_l8_7), (3, .int y3_l18_9), (4, .int (((8 * y3_l18_9) + y2_l8_7) - 1))]) C dX4_brackets_113 (k := 5) rfl rfl (by decide) rfl ?_
                      refine rb_goto (tgt := 69) C dX4_brackets_116 (by decide) ?_
                      refine rb_sub [2, 1, 3, 4, 5, 0] rfl ?_
                      exact ih_l69_14 v_22 (y5_l69_14 + 1) S_19 A_20 h_21 hM hF hf
                refine rb_sub [1, 2, 3, 4, 5, 0] rfl ?_
                exact L_l69_14 4096 y1_j66_13 1 S_j66_13 A_j66_13 h_j66_13 hM hF hf
              refine rb_icmp_ne (tgt := 66) C dX4_brackets_48 (by decide) (fun c_12 => ?_) (fun c_12 => ?_)
              · have hf := (if_neg c_12).symm.trans hf
                refine rb_sub [1, 2, 3, 4, 0] rfl ?_
                exact J_j66_13 y1_l18_9 S_l18_9 (va_up A_l18_9 28 (upd (A_l18_9 28) (((8 * y3_l18_9) + y2_l8_7) - 1).toNatClampNeg y1_l18_9)) h_11 hM hF hf
              · have hf := (if_pos c_12).symm.trans hf
                refine rb_aload_n C dX4_brackets_51 rfl 1 rfl ?_
                refine rb_get (v := .ref (a 27)) C fl_X4_57_X4 (Or.inl hM.1) rfl dX4_brackets_52 ?_
                refine rb_iload_n C dX4_brackets_55 rfl 2 rfl ?_
                refine rb_aload_n C dX4_brackets_56 rfl 1 rfl ?_
                refine rb_get (v := .ref (a 24)) C fl_X4_51_X4 (Or.inl hM.1) rfl dX4_brackets_57 ?_
                refine rb_iload_n C dX4_brackets_60 rfl 4 rfl ?_
                by_cases c_g : (y3_l18_9 < 0 ∨ 8 ≤ y3_l18_9.toNatClampNeg)
                · exact absurd ((if_pos c_g).symm.trans hf) (fun z => by cases z)
                have hf := (if_neg c_g).symm.trans hf
                refine rb_iald (f := (A_l18_9 24)) C (Or.inl (hM.2.1 24 rfl)) (rb_nN c_g) dX4_brackets_61 ?_
                by_cases c_g : (y1_l18_9 < 0 ∨ 1000 ≤ y1_l18_9.toNatClampNeg)
                · exact absurd ((if_pos c_g).symm.trans hf) (fun z => by cases z)
                have hf := (if_neg c_g).symm.trans hf
                refine rb_iast (f := (A_l18_9 27)) C (hM.2.1 27 rfl) (rb_nN c_g) dX4_brackets_62 (fun h_24 e1 e2 => ?_)
                have hM : MD Ev h_24 o a S_l18_9 (va_up (va_up A_l18_9 28 (upd (A_l18_9 28) (((8 * y3_l18_9) + y2_l8_7) - 1).toNatClampNeg y1_l18_9)) 27 (upd (A_l18_9 27) y1_l18_9.toNatClampNeg ((A_l18_9 24) y3_l18_9.toNatClampNeg))) := hM.ast 27 rfl e1 e2
                have hF := hF.ast 27 rfl e2
                refine rb_iinc (v := (y1_l18_9 + 1)) (lv' := [(1, .int (y1_l18_9 + 1)), (4, .int (((8 * y3_l18_9) + y2_l8_7) - 1)), (0, .ref o), (2, .int y2_l8_7), (3, .int y3_l18_9)]) C dX4_brackets_63 (k := 2) rfl rfl (by decide) rfl ?_
                refine rb_sub [2, 0, 3, 4, 1] rfl ?_
                exact J_j66_13 (y1_l18_9 + 1) S_l18_9 (va_up (va_up A_l18_9 28 (upd (A_l18_9 28) (((8 * y3_l18_9) + y2_l8_7) - 1).toNatClampNeg y1_l18_9)) 27 (upd (A_l18_9 27) y1_l18_9.toNatClampNeg ((A_l18_9 24) y3_l18_9.toNatClampNeg))) h_24 hM hF hf
        refine rb_sub [1, 2, 3, 0] rfl ?_
        exact L_l18_9 4096 y1_l8_7 0 S_l8_7 A_l8_7 h_l8_7 hM hF hf
  refine rb_sub [2, 1, 0] rfl ?_
  exact L_l8_7 4096 0 1 S_3 A_4 h_5 hM hF hf
def f_X4_bracketMany (S : Nat → Int32) (A : Nat → Nat → Int32) : Option (Int64 × (Nat → Int32) × (Nat → Nat → Int32)) := ((f_X4_isDraft S A ).bind fun (v_6, S_3, A_4) => (if v_6 = 0 then (some (0, S_3, A_4)) else ((f_X4_brackets S_3 A_4 ).bind fun (v_14, S_11, A_12) => (some (v_14.toInt64, S_11, A_12)))))
abbrev rm_X4_bracketMany : Room := { frames := 5, cells := 0, slots := 0, locals := 109 }
set_option maxHeartbeats 4000000 in
theorem ct_X4_bracketMany (Ev : rb_E) (h : AH) (n : Nat) (o : Nat) (a : Nat → Nat) (S : Nat → Int32) (A : Nat → Nat → Int32)  (rv : Int64) (rS : Nat → Int32) (rA : Nat → Nat → Int32) (hM : MD Ev h o a S A) (hf : f_X4_bracketMany S A = some (rv, rS, rA)) : Ct Ev yX4_bracketMany (ws_ yX4_bracketMany cX4_bracketMany 1 (some .long)) rm_X4_bracketMany [.ref o] h n (pMv Ev o a h n (some (.long rv)) rS rA) := by
  refine Ct.of rfl (Nat.le_of_ble_eq_true rfl) fun X C hnm => ?_
  have C : Cx Ev X RX4 cX4_bracketMany 1 (some .long) [] := C
  show Wa Ev X rm_X4_bracketMany 1 h n 0 0 (rb_MQ Ev X rm_X4_bracketMany (pMv Ev o a h n (some (.long rv)) rS rA)) 0 [(0, .ref o)] []
  have hF : mdFr h h o a := mdFr.rf
  rw [f_X4_bracketMany] at hf
  refine rb_aload_n C dX4_bracketMany_0 rfl 0 rfl ?_
  obtain ⟨⟨v_6, S_3, A_4⟩, e_2, hf⟩ := rb_bd hf
  refine rb_zVM C mi_X4_isDraft sv_X4_185 (IsC.of (Or.inl hM.1) ck_X4) (ct_X4_isDraft Ev h n o a S A  _ _ _ hM e_2) (rest := []) rfl rfl (Nat.le_of_ble_eq_true rfl) ⟨Nat.le_of_ble_eq_true rfl, Nat.le_of_ble_eq_true rfl⟩ ⟨Nat.zero_le _, Nat.zero_le _⟩ dX4_bracketMany_1 (fun h_5 hM hF1 hn_7 => ?_)
  have hF := hF.tr hF1
  refine rb_if_eq (tgt := 15) C dX4_bracketMany_4 (by decide) (fun c_8 => ?_) (fun c_8 => ?_)
  · have hf := (if_pos c_8).symm.trans hf
    refine rb_lconst (v := 0) C dX4_bracketMany_15 rfl ?_
    cases hf
    exact rb_lret C rfl (Nat.zero_le _) (Nat.zero_le _) dX4_bracketMany_16 ⟨rfl, rfl, hM, hF⟩
  · have hf := (if_neg c_8).symm.trans hf
    refine rb_aload_n C dX4_bracketMany_7 rfl 0 rfl ?_
    obtain ⟨⟨v_14, S_11, A_12⟩, e_10, hf⟩ := rb_bd hf
    refine rb_zVM C mi_X4_brackets sv_X4_230 (IsC.of (Or.inl hM.1) ck_X4) (ct_X4_brackets Ev h_5 n o a S_3 A_4  _ _ _ hM e_10) (rest := []) rfl rfl (Nat.le_of_ble_eq_true rfl) ⟨Nat.le_of_ble_eq_true rfl, Nat.le_of_ble_eq_true rfl⟩ ⟨Nat.zero_le _, Nat.zero_le _⟩ dX4_bracketMany_8 (fun h_13 hM hF1 hn_15 => ?_)
    have hF := hF.tr hF1
    refine rb_i2l C dX4_bracketMany_11 rfl ?_
    refine rb_goto (tgt := 16) C dX4_bracketMany_12 (by decide) ?_
    cases hf
    exact rb_lret C rfl (Nat.zero_le _) (Nat.zero_le _) dX4_bracketMany_16 ⟨rfl, rfl, hM, hF⟩
def f_X4_bracketings (S : Nat → Int32) (A : Nat → Nat → Int32) : Option (Int64 × (Nat → Int32) × (Nat → Nat → Int32)) := ((f_X4_bracketMany S A ).bind fun (v_6, S_3, A_4) => (some (v_6, S_3, A_4)))
abbrev rm_X4_bracketings : Room := { frames := 6, cells := 0, slots := 0, locals := 129 }
set_option maxHeartbeats 4000000 in
theorem ct_X4_bracketings (Ev : rb_E) (h : AH) (n : Nat) (o : Nat) (a : Nat → Nat) (S : Nat → Int32) (A : Nat → Nat → Int32)  (rv : Int64) (rS : Nat → Int32) (rA : Nat → Nat → Int32) (hM : MD Ev h o a S A) (hf : f_X4_bracketings S A = some (rv, rS, rA)) : Ct Ev yX4_bracketings (ws_ yX4_bracketings cX4_bracketings 1 (some .long)) rm_X4_bracketings [.ref o] h n (pMv Ev o a h n (some (.long rv)) rS rA) := by
  refine Ct.of rfl (Nat.le_of_ble_eq_true rfl) fun X C hnm => ?_
  have C : Cx Ev X RX4 cX4_bracketings 1 (some .long) [] := C
  show Wa Ev X rm_X4_bracketings 1 h n 0 0 (rb_MQ Ev X rm_X4_bracketings (pMv Ev o a h n (some (.long rv)) rS rA)) 0 [(0, .ref o)] []
  have hF : mdFr h h o a := mdFr.rf
  rw [f_X4_bracketings] at hf
  refine rb_aload_n C dX4_bracketings_0 rfl 0 rfl ?_
  obtain ⟨⟨v_6, S_3, A_4⟩, e_2, hf⟩ := rb_bd hf
  refine rb_zVMv C mi_X4_bracketMany sv_X4_233 (IsC.of (Or.inl hM.1) ck_X4) (ct_X4_bracketMany Ev h n o a S A  _ _ _ hM e_2) (rest := []) rfl rfl (Nat.le_of_ble_eq_true rfl) ⟨Nat.le_of_ble_eq_true rfl, Nat.le_of_ble_eq_true rfl⟩ ⟨Nat.zero_le _, Nat.zero_le _⟩ dX4_bracketings_1 (fun h_5 hM hF1 => ?_)
  have hF := hF.tr hF1
  cases hf
  exact rb_lret C rfl (Nat.zero_le _) (Nat.zero_le _) dX4_bracketings_4 ⟨rfl, rfl, hM, hF⟩
def f_X4_bracketingsByMaking (S : Nat → Int32) (A : Nat → Nat → Int32) : Option (Int64 × (Nat → Int32) × (Nat → Nat → Int32)) := ((f_X4_bracketMany S A ).bind fun (v_6, S_3, A_4) => (some (v_6, S_3, A_4)))
abbrev rm_X4_bracketingsByMaking : Room := { frames := 6, cells := 0, slots := 0, locals := 129 }
set_option maxHeartbeats 4000000 in
theorem ct_X4_bracketingsByMaking (Ev : rb_E) (h : AH) (n : Nat) (o : Nat) (a : Nat → Nat) (S : Nat → Int32) (A : Nat → Nat → Int32)  (rv : Int64) (rS : Nat → Int32) (rA : Nat → Nat → Int32) (hM : MD Ev h o a S A) (hf : f_X4_bracketingsByMaking S A = some (rv, rS, rA)) : Ct Ev yX4_bracketingsByMaking (ws_ yX4_bracketingsByMaking cX4_bracketingsByMaking 1 (some .long)) rm_X4_bracketingsByMaking [.ref o] h n (pMv Ev o a h n (some (.long rv)) rS rA) := by
  refine Ct.of rfl (Nat.le_of_ble_eq_true rfl) fun X C hnm => ?_
  have C : Cx Ev X RX4 cX4_bracketingsByMaking 1 (some .long) [] := C
  show Wa Ev X rm_X4_bracketingsByMaking 1 h n 0 0 (rb_MQ Ev X rm_X4_bracketingsByMaking (pMv Ev o a h n (some (.long rv)) rS rA)) 0 [(0, .ref o)] []
  have hF : mdFr h h o a := mdFr.rf
  rw [f_X4_bracketingsByMaking] at hf
  refine rb_aload_n C dX4_bracketingsByMaking_0 rfl 0 rfl ?_
  obtain ⟨⟨v_6, S_3, A_4⟩, e_2, hf⟩ := rb_bd hf
  refine rb_zVMv C mi_X4_bracketMany sv_X4_233 (IsC.of (Or.inl hM.1) ck_X4) (ct_X4_bracketMany Ev h n o a S A  _ _ _ hM e_2) (rest := []) rfl rfl (Nat.le_of_ble_eq_true rfl) ⟨Nat.le_of_ble_eq_true rfl, Nat.le_of_ble_eq_true rfl⟩ ⟨Nat.zero_le _, Nat.zero_le _⟩ dX4_bracketingsByMaking_1 (fun h_5 hM hF1 => ?_)
  have hF := hF.tr hF1
  cases hf
  exact rb_lret C rfl (Nat.zero_le _) (Nat.zero_le _) dX4_bracketingsByMaking_4 ⟨rfl, rfl, hM, hF⟩
def f_X4_best_l18_16 (S_11 : Nat → Int32) (A_12 : Nat → Nat → Int32) (v_14 : Int32) : Nat → Int32 → Int32 → Option (Int32 × (Nat → Int32) × (Nat → Nat → Int32))
  | 0, _, _ => none
  | k_l18_16 + 1, y2_l18_16, y3_l18_16 => (if v_14 ≤ y3_l18_16 then (some (y2_l18_16, S_11, A_12)) else if (((S_11 26) - 1) < 0 ∨ 64 ≤ ((S_11 26) - 1).toNatClampNeg) then none else if ((((A_12 28) ((S_11 26) - 1).toNatClampNeg) + y3_l18_16) < 0 ∨ 1000 ≤ (((A_12 28) ((S_11 26) - 1).toNatClampNeg) + y3_l18_16).toNatClampNeg) then none else ((f_X4_best_l18_16 S_11 A_12 v_14 k_l18_16) (f_X4_most y2_l18_16 ((A_12 27) (((A_12 28) ((S_11 26) - 1).toNatClampNeg) + y3_l18_16).toNatClampNeg)) (y3_l18_16 + 1)))
def f_X4_best (S : Nat → Int32) (A : Nat → Nat → Int32) : Option (Int32 × (Nat → Int32) × (Nat → Nat → Int32)) := ((f_X4_isDraft S A ).bind fun (v_6, S_3, A_4) => (if v_6 = 0 then (some (0, S_3, A_4)) else ((f_X4_brackets S_3 A_4 ).bind fun (v_14, S_11, A_12) => (f_X4_best_l18_16 S_11 A_12 v_14 4096 0 0))))
abbrev rm_X4_best : Room := { frames := 5, cells := 0, slots := 0, locals := 109 }
set_option maxHeartbeats 4000000 in
theorem ct_X4_best (Ev : rb_E) (h : AH) (n : Nat) (o : Nat) (a : Nat → Nat) (S : Nat → Int32) (A : Nat → Nat → Int32)  (rv : Int32) (rS : Nat → Int32) (rA : Nat → Nat → Int32) (hM : MD Ev h o a S A) (hf : f_X4_best S A = some (rv, rS, rA)) : Ct Ev yX4_best (ws_ yX4_best cX4_best 4 (some .int)) rm_X4_best [.ref o] h n (pM Ev .int o a h n rv rS rA) := by
  refine Ct.of rfl (Nat.le_of_ble_eq_true rfl) fun X C hnm => ?_
  have C : Cx Ev X RX4 cX4_best 4 (some .int) [] := C
  show Wa Ev X rm_X4_best 4 h n 0 0 (rb_MQ Ev X rm_X4_best (pM Ev .int o a h n rv rS rA)) 0 [(0, .ref o)] []
  have hF : mdFr h h o a := mdFr.rf
  rw [f_X4_best] at hf
  refine rb_aload_n C dX4_best_0 rfl 0 rfl ?_
  obtain ⟨⟨v_6, S_3, A_4⟩, e_2, hf⟩ := rb_bd hf
  refine rb_zVM C mi_X4_isDraft sv_X4_185 (IsC.of (Or.inl hM.1) ck_X4) (ct_X4_isDraft Ev h n o a S A  _ _ _ hM e_2) (rest := []) rfl rfl (Nat.le_of_ble_eq_true rfl) ⟨Nat.le_of_ble_eq_true rfl, Nat.le_of_ble_eq_true rfl⟩ ⟨Nat.zero_le _, Nat.zero_le _⟩ dX4_best_1 (fun h_5 hM hF1 hn_7 => ?_)
  have hF := hF.tr hF1
  refine rb_if_ne (tgt := 9) C dX4_best_4 (by decide) (fun c_8 => ?_) (fun c_8 => ?_)
  · have hf := (if_neg c_8).symm.trans hf
    refine rb_aload_n C dX4_best_9 rfl 0 rfl ?_
    obtain ⟨⟨v_14, S_11, A_12⟩, e_10, hf⟩ := rb_bd hf
    refine rb_zVM C mi_X4_brackets sv_X4_230 (IsC.of (Or.inl hM.1) ck_X4) (ct_X4_brackets Ev h_5 n o a S_3 A_4  _ _ _ hM e_10) (rest := []) rfl rfl (Nat.le_of_ble_eq_true rfl) ⟨Nat.le_of_ble_eq_true rfl, Nat.le_of_ble_eq_true rfl⟩ ⟨Nat.zero_le _, Nat.zero_le _⟩ dX4_best_10 (fun h_13 hM hF1 hn_15 => ?_)
    have hF := hF.tr hF1
    refine rb_istore_n (lv' := [(1, .int v_14), (0, .ref o)]) C dX4_best_13 rfl (by decide) rfl ?_
    refine rb_iconst (v := 0) C dX4_best_14 rfl ?_
    refine rb_istore_n (lv' := [(2, .int 0), (1, .int v_14), (0, .ref o)]) C dX4_best_15 rfl (by decide) rfl ?_
    refine rb_iconst (v := 0) C dX4_best_16 rfl ?_
    refine rb_istore_n (lv' := [(3, .int 0), (2, .int 0), (1, .int v_14), (0, .ref o)]) C dX4_best_17 rfl (by decide) rfl ?_
    have L_l18_16 : ∀ (k_l18_16 : Nat) (y2_l18_16 : Int32) (y3_l18_16 : Int32), f_X4_best_l18_16 S_11 A_12 v_14 k_l18_16 y2_l18_16 y3_l18_16 = some (rv, rS, rA) → Wa Ev X rm_X4_best 4 h_13 n 0 0 (rb_MQ Ev X rm_X4_best (pM Ev .int o a h n rv rS rA)) 18 [(0, .ref o), (1, .int v_14), (2, .int y2_l18_16), (3, .int y3_l18_16)] [] := by
      intro k_l18_16
      induction k_l18_16 with
      | zero => intro y2_l18_16 y3_l18_16 hf; cases hf
      | succ k_l18_16 ih_l18_16 =>
        intro y2_l18_16 y3_l18_16 hf
        rw [f_X4_best_l18_16] at hf
        refine rb_iload_n C dX4_best_18 rfl 3 rfl ?_
        refine rb_iload_n C dX4_best_19 rfl 1 rfl ?_
        refine rb_icmp_ge (tgt := 52) C dX4_best_20 (by decide) (fun c_17 => ?_) (fun c_17 => ?_)
        · have hf := (if_pos c_17).symm.trans hf
          refine rb_iload_n C dX4_best_52 rfl 2 rfl ?_
          cases hf
          exact rb_iret C rfl rfl (Nat.zero_le _) (Nat.zero_le _) dX4_best_53 ⟨rfl, rfl, hM, hF, rfl⟩
        · have hf := (if_neg c_17).symm.trans hf
          refine rb_iload_n C dX4_best_23 rfl 2 rfl ?_
          refine rb_aload_n C dX4_best_24 rfl 0 rfl ?_
          refine rb_get (v := .ref (a 27)) C fl_X4_57_X4 (Or.inl hM.1) rfl dX4_best_25 ?_
          refine rb_aload_n C dX4_best_28 rfl 0 rfl ?_
          refine rb_get (v := .ref (a 28)) C fl_X4_60_X4 (Or.inl hM.1) rfl dX4_best_29 ?_
          refine rb_aload_n C dX4_best_32 rfl 0 rfl ?_
          refine rb_get (v := .int (S_11 26)) C fl_X4_220_X4 (Or.inl hM.1) rfl dX4_best_33 ?_
          refine rb_iconst (v := 1) C dX4_best_36 rfl ?_
          refine rb_isub C dX4_best_37 ?_
          by_cases c_g : (((S_11 26) - 1) < 0 ∨ 64 ≤ ((S_11 26) - 1).toNatClampNeg)
          · exact absurd ((if_pos c_g).symm.trans hf) (fun z => by cases z)
          have hf := (if_neg c_g).symm.trans hf
          refine rb_iald (f := (A_12 28)) C (Or.inl (hM.2.1 28 rfl)) (rb_nN c_g) dX4_best_38 ?_
          refine rb_iload_n C dX4_best_39 rfl 3 rfl ?_
          refine rb_iadd C dX4_best_40 ?_
          by_cases c_g : ((((A_12 28) ((S_11 26) - 1).toNatClampNeg) + y3_l18_16) < 0 ∨ 1000 ≤ (((A_12 28) ((S_11 26) - 1).toNatClampNeg) + y3_l18_16).toNatClampNeg)
          · exact absurd ((if_pos c_g).symm.trans hf) (fun z => by cases z)
          have hf := (if_neg c_g).symm.trans hf
          refine rb_iald (f := (A_12 27)) C (Or.inl (hM.2.1 27 rfl)) (rb_nN c_g) dX4_best_41 ?_
          refine rb_zSR C mi_X4_most ss_X4_154 (ct_X4_most Ev h_13 n y2_l18_16 ((A_12 27) (((A_12 28) ((S_11 26) - 1).toNatClampNeg) + y3_l18_16).toNatClampNeg) _ rfl) (rest := []) rfl rfl (Nat.le_of_ble_eq_true rfl) ⟨Nat.le_of_ble_eq_true rfl, Nat.le_of_ble_eq_true rfl⟩ ⟨Nat.zero_le _, Nat.zero_le _⟩ dX4_best_42 (fun hn_18 => ?_)
          refine rb_istore_n (lv' := [(2, .int (f_X4_most y2_l18_16 ((A_12 27) (((A_12 28) ((S_11 26) - 1).toNatClampNeg) + y3_l18_16).toNatClampNeg))), (0, .ref o), (1, .int v_14), (3, .int y3_l18_16)]) C dX4_best_45 rfl (by decide) rfl ?_
          refine rb_iinc (v := (y3_l18_16 + 1)) (lv' := [(3, .int (y3_l18_16 + 1)), (2, .int (f_X4_most y2_l18_16 ((A_12 27) (((A_12 28) ((S_11 26) - 1).toNatClampNeg) + y3_l18_16).toNatClampNeg))), (0, .ref o), (1, .int v_14)]) C dX4_best_46 (k := 3) rfl rfl (by decide) rfl ?_
          refine rb_goto (tgt := 18) C dX4_best_49 (by decide) ?_
          refine rb_sub [2, 3, 1, 0] rfl ?_
          exact ih_l18_16 (f_X4_most y2_l18_16 ((A_12 27) (((A_12 28) ((S_11 26) - 1).toNatClampNeg) + y3_l18_16).toNatClampNeg)) (y3_l18_16 + 1) hf
    refine rb_sub [3, 2, 1, 0] rfl ?_
    exact L_l18_16 4096 0 0 hf
  · have hf := (if_pos c_8).symm.trans hf
    refine rb_iconst (v := 0) C dX4_best_7 rfl ?_
    cases hf
    exact rb_iret C rfl rfl (Nat.zero_le _) (Nat.zero_le _) dX4_best_8 ⟨rfl, rfl, hM, hF, rfl⟩
def f_X4_greatest (S : Nat → Int32) (A : Nat → Nat → Int32) : Option (Int32 × (Nat → Int32) × (Nat → Nat → Int32)) := ((f_X4_best S A ).bind fun (v_6, S_3, A_4) => (some (v_6, S_3, A_4)))
abbrev rm_X4_greatest : Room := { frames := 6, cells := 0, slots := 0, locals := 132 }
set_option maxHeartbeats 4000000 in
theorem ct_X4_greatest (Ev : rb_E) (h : AH) (n : Nat) (o : Nat) (a : Nat → Nat) (S : Nat → Int32) (A : Nat → Nat → Int32)  (rv : Int32) (rS : Nat → Int32) (rA : Nat → Nat → Int32) (hM : MD Ev h o a S A) (hf : f_X4_greatest S A = some (rv, rS, rA)) : Ct Ev yX4_greatest (ws_ yX4_greatest cX4_greatest 1 (some .int)) rm_X4_greatest [.ref o] h n (pM Ev .int o a h n rv rS rA) := by
  refine Ct.of rfl (Nat.le_of_ble_eq_true rfl) fun X C hnm => ?_
  have C : Cx Ev X RX4 cX4_greatest 1 (some .int) [] := C
  show Wa Ev X rm_X4_greatest 1 h n 0 0 (rb_MQ Ev X rm_X4_greatest (pM Ev .int o a h n rv rS rA)) 0 [(0, .ref o)] []
  have hF : mdFr h h o a := mdFr.rf
  rw [f_X4_greatest] at hf
  refine rb_aload_n C dX4_greatest_0 rfl 0 rfl ?_
  obtain ⟨⟨v_6, S_3, A_4⟩, e_2, hf⟩ := rb_bd hf
  refine rb_zVM C mi_X4_best sv_X4_237 (IsC.of (Or.inl hM.1) ck_X4) (ct_X4_best Ev h n o a S A  _ _ _ hM e_2) (rest := []) rfl rfl (Nat.le_of_ble_eq_true rfl) ⟨Nat.le_of_ble_eq_true rfl, Nat.le_of_ble_eq_true rfl⟩ ⟨Nat.zero_le _, Nat.zero_le _⟩ dX4_greatest_1 (fun h_5 hM hF1 hn_7 => ?_)
  have hF := hF.tr hF1
  cases hf
  exact rb_iret C rfl rfl (Nat.zero_le _) (Nat.zero_le _) dX4_greatest_4 ⟨rfl, rfl, hM, hF, rfl⟩
def f_X4_greatestByMaking (S : Nat → Int32) (A : Nat → Nat → Int32) : Option (Int32 × (Nat → Int32) × (Nat → Nat → Int32)) := ((f_X4_best S A ).bind fun (v_6, S_3, A_4) => (some (v_6, S_3, A_4)))
abbrev rm_X4_greatestByMaking : Room := { frames := 6, cells := 0, slots := 0, locals := 132 }
set_option maxHeartbeats 4000000 in
theorem ct_X4_greatestByMaking (Ev : rb_E) (h : AH) (n : Nat) (o : Nat) (a : Nat → Nat) (S : Nat → Int32) (A : Nat → Nat → Int32)  (rv : Int32) (rS : Nat → Int32) (rA : Nat → Nat → Int32) (hM : MD Ev h o a S A) (hf : f_X4_greatestByMaking S A = some (rv, rS, rA)) : Ct Ev yX4_greatestByMaking (ws_ yX4_greatestByMaking cX4_greatestByMaking 1 (some .int)) rm_X4_greatestByMaking [.ref o] h n (pM Ev .int o a h n rv rS rA) := by
  refine Ct.of rfl (Nat.le_of_ble_eq_true rfl) fun X C hnm => ?_
  have C : Cx Ev X RX4 cX4_greatestByMaking 1 (some .int) [] := C
  show Wa Ev X rm_X4_greatestByMaking 1 h n 0 0 (rb_MQ Ev X rm_X4_greatestByMaking (pM Ev .int o a h n rv rS rA)) 0 [(0, .ref o)] []
  have hF : mdFr h h o a := mdFr.rf
  rw [f_X4_greatestByMaking] at hf
  refine rb_aload_n C dX4_greatestByMaking_0 rfl 0 rfl ?_
  obtain ⟨⟨v_6, S_3, A_4⟩, e_2, hf⟩ := rb_bd hf
  refine rb_zVM C mi_X4_best sv_X4_237 (IsC.of (Or.inl hM.1) ck_X4) (ct_X4_best Ev h n o a S A  _ _ _ hM e_2) (rest := []) rfl rfl (Nat.le_of_ble_eq_true rfl) ⟨Nat.le_of_ble_eq_true rfl, Nat.le_of_ble_eq_true rfl⟩ ⟨Nat.zero_le _, Nat.zero_le _⟩ dX4_greatestByMaking_1 (fun h_5 hM hF1 hn_7 => ?_)
  have hF := hF.tr hF1
  cases hf
  exact rb_iret C rfl rfl (Nat.zero_le _) (Nat.zero_le _) dX4_greatestByMaking_4 ⟨rfl, rfl, hM, hF, rfl⟩
def f_X4_values_j81_21 (y2_l40_18 : Int32) (y3_l40_18 : Int32) (S_l40_18 : Nat → Int32) (A_l40_18 : Nat → Nat → Int32) (rec_l40_18 : Int32 → Int32 → (Nat → Int32) → (Nat → Nat → Int32) → Option (Int32 × (Nat → Int32) × (Nat → Nat → Int32))) (w0_j81_21 : Int32) : Option (Int32 × (Nat → Int32) × (Nat → Nat → Int32)) := if (((A_l40_18 27) (((A_l40_18 28) ((S_l40_18 26) - 1).toNatClampNeg) + y3_l40_18).toNatClampNeg) < 0 ∨ 1000 ≤ ((A_l40_18 27) (((A_l40_18 28) ((S_l40_18 26) - 1).toNatClampNeg) + y3_l40_18).toNatClampNeg).toNatClampNeg) then none else (rec_l40_18 (y2_l40_18 + w0_j81_21) (y3_l40_18 + 1) S_l40_18 (va_up A_l40_18 30 (upd (A_l40_18 30) ((A_l40_18 27) (((A_l40_18 28) ((S_l40_18 26) - 1).toNatClampNeg) + y3_l40_18).toNatClampNeg).toNatClampNeg (vp_nar .boolean 1))))
def f_X4_values_l40_18 (v_14 : Int32) : Nat → Int32 → Int32 → (Nat → Int32) → (Nat → Nat → Int32) → Option (Int32 × (Nat → Int32) × (Nat → Nat → Int32))
  | 0, _, _, _, _ => none
  | k_l40_18 + 1, y2_l40_18, y3_l40_18, S_l40_18, A_l40_18 => (if v_14 ≤ y3_l40_18 then (some (y2_l40_18, S_l40_18, A_l40_18)) else if (((S_l40_18 26) - 1) < 0 ∨ 64 ≤ ((S_l40_18 26) - 1).toNatClampNeg) then none else if ((((A_l40_18 28) ((S_l40_18 26) - 1).toNatClampNeg) + y3_l40_18) < 0 ∨ 1000 ≤ (((A_l40_18 28) ((S_l40_18 26) - 1).toNatClampNeg) + y3_l40_18).toNatClampNeg) then none else if (((A_l40_18 27) (((A_l40_18 28) ((S_l40_18 26) - 1).toNatClampNeg) + y3_l40_18).toNatClampNeg) < 0 ∨ 1000 ≤ ((A_l40_18 27) (((A_l40_18 28) ((S_l40_18 26) - 1).toNatClampNeg) + y3_l40_18).toNatClampNeg).toNatClampNeg) then none else (if ((A_l40_18 30) ((A_l40_18 27) (((A_l40_18 28) ((S_l40_18 26) - 1).toNatClampNeg) + y3_l40_18).toNatClampNeg).toNatClampNeg) = 0 then (f_X4_values_j81_21 y2_l40_18 y3_l40_18 S_l40_18 A_l40_18 (f_X4_values_l40_18 v_14 k_l40_18) 1) else (f_X4_values_j81_21 y2_l40_18 y3_l40_18 S_l40_18 A_l40_18 (f_X4_values_l40_18 v_14 k_l40_18) 0)))
def f_X4_values_l18_16 (v_14 : Int32) : Nat → Int32 → (Nat → Int32) → (Nat → Nat → Int32) → Option (Int32 × (Nat → Int32) × (Nat → Nat → Int32))
  | 0, _, _, _ => none
  | k_l18_16 + 1, y3_l18_16, S_l18_16, A_l18_16 => (if 1000 ≤ y3_l18_16 then (f_X4_values_l40_18 v_14 4096 0 0 S_l18_16 A_l18_16) else if (y3_l18_16 < 0 ∨ 1000 ≤ y3_l18_16.toNatClampNeg) then none else ((f_X4_values_l18_16 v_14 k_l18_16) (y3_l18_16 + 1) S_l18_16 (va_up A_l18_16 30 (upd (A_l18_16 30) y3_l18_16.toNatClampNeg (vp_nar .boolean 0)))))
def f_X4_values (S : Nat → Int32) (A : Nat → Nat → Int32) : Option (Int32 × (Nat → Int32) × (Nat → Nat → Int32)) := ((f_X4_isDraft S A ).bind fun (v_6, S_3, A_4) => (if v_6 = 0 then (some (0, S_3, A_4)) else ((f_X4_brackets S_3 A_4 ).bind fun (v_14, S_11, A_12) => (f_X4_values_l18_16 v_14 4096 0 S_11 A_12))))
abbrev rm_X4_values : Room := { frames := 5, cells := 0, slots := 0, locals := 109 }
set_option maxHeartbeats 4000000 in
theorem ct_X4_values (Ev : rb_E) (h : AH) (n : Nat) (o : Nat) (a : Nat → Nat) (S : Nat → Int32) (A : Nat → Nat → Int32)  (rv : Int32) (rS : Nat → Int32) (rA : Nat → Nat → Int32) (hM : MD Ev h o a S A) (hf : f_X4_values S A = some (rv, rS, rA)) : Ct Ev yX4_values (ws_ yX4_values cX4_values 5 (some .int)) rm_X4_values [.ref o] h n (pM Ev .int o a h n rv rS rA) := by
  refine Ct.of rfl (Nat.le_of_ble_eq_true rfl) fun X C hnm => ?_
  have C : Cx Ev X RX4 cX4_values 5 (some .int) [] := C
  show Wa Ev X rm_X4_values 5 h n 0 0 (rb_MQ Ev X rm_X4_values (pM Ev .int o a h n rv rS rA)) 0 [(0, .ref o)] []
  have hF : mdFr h h o a := mdFr.rf
  rw [f_X4_values] at hf
  refine rb_aload_n C dX4_values_0 rfl 0 rfl ?_
  obtain ⟨⟨v_6, S_3, A_4⟩, e_2, hf⟩ := rb_bd hf
  refine rb_zVM C mi_X4_isDraft sv_X4_185 (IsC.of (Or.inl hM.1) ck_X4) (ct_X4_isDraft Ev h n o a S A  _ _ _ hM e_2) (rest := []) rfl rfl (Nat.le_of_ble_eq_true rfl) ⟨Nat.le_of_ble_eq_true rfl, Nat.le_of_ble_eq_true rfl⟩ ⟨Nat.zero_le _, Nat.zero_le _⟩ dX4_values_1 (fun h_5 hM hF1 hn_7 => ?_)
  have hF := hF.tr hF1
  refine rb_if_ne (tgt := 9) C dX4_values_4 (by decide) (fun c_8 => ?_) (fun c_8 => ?_)
  · have hf := (if_neg c_8).symm.trans hf
    refine rb_aload_n C dX4_values_9 rfl 0 rfl ?_
    obtain ⟨⟨v_14, S_11, A_12⟩, e_10, hf⟩ := rb_bd hf
    refine rb_zVM C mi_X4_brackets sv_X4_230 (IsC.of (Or.inl hM.1) ck_X4) (ct_X4_brackets Ev h_5 n o a S_3 A_4  _ _ _ hM e_10) (rest := []) rfl rfl (Nat.le_of_ble_eq_true rfl) ⟨Nat.le_of_ble_eq_true rfl, Nat.le_of_ble_eq_true rfl⟩ ⟨Nat.zero_le _, Nat.zero_le _⟩ dX4_values_10 (fun h_13 hM hF1 hn_15 => ?_)
    have hF := hF.tr hF1
    refine rb_istore_n (lv' := [(1, .int v_14), (0, .ref o)]) C dX4_values_13 rfl (by decide) rfl ?_
    refine rb_iconst (v := 0) C dX4_values_14 rfl ?_
    refine rb_istore_n (lv' := [(2, .int 0), (1, .int v_14), (0, .ref o)]) C dX4_values_15 rfl (by decide) rfl ?_
    refine rb_iconst (v := 0) C dX4_values_16 rfl ?_
    refine rb_istore_n (lv' := [(3, .int 0), (2, .int 0), (1, .int v_14), (0, .ref o)]) C dX4_values_17 rfl (by decide) rfl ?_
    have L_l18_16 : ∀ (k_l18_16 : Nat) (y3_l18_16 : Int32) (S_l18_16 : Nat → Int32) (A_l18_16 : Nat → Nat → Int32) (h_l18_16 : AH), MD Ev h_l18_16 o a S_l18_16 A_l18_16 → mdFr h h_l18_16 o a → f_X4_values_l18_16 v_14 k_l18_16 y3_l18_16 S_l18_16 A_l18_16 = some (rv, rS, rA) → Wa Ev X rm_X4_values 5 h_l18_16 n 0 0 (rb_MQ Ev X rm_X4_values (pM Ev .int o a h n rv rS rA)) 18 [(0, .ref o), (1, .int v_14), (2, .int 0), (3, .int y3_l18_16)] [] := by
      intro k_l18_16
      induction k_l18_16 with
      | zero => intro y3_l18_16 S_l18_16 A_l18_16 h_l18_16 hM hF hf; cases hf
      | succ k_l18_16 ih_l18_16 =>
        intro y3_l18_16 S_l18_16 A_l18_16 h_l18_16 hM hF hf
        rw [f_X4_values_l18_16] at hf
        refine rb_iload_n C dX4_values_18 rfl 3 rfl ?_
        refine rb_sipush (v := 1000) C dX4_values_19 rfl ?_
        refine rb_icmp_ge (tgt := 38) C dX4_values_22 (by decide) (fun c_17 => ?_) (fun c_17 => ?_)
        · have hf := (if_pos c_17).symm.trans hf
          refine rb_iconst (v := 0) C dX4_values_38 rfl ?_
          refine rb_istore_n (lv' := [(3, .int 0), (0, .ref o), (1, .int v_14), (2, .int 0)]) C dX4_values_39 rfl (by decide) rfl ?_
          have L_l40_18 : ∀ (k_l40_18 : Nat) (y2_l40_18 : Int32) (y3_l40_18 : Int32) (S_l40_18 : Nat → Int32) (A_l40_18 : Nat → Nat → Int32) (h_l40_18 : AH), MD Ev h_l40_18 o a S_l40_18 A_l40_18 → mdFr h h_l40_18 o a → f_X4_values_l40_18 v_14 k_l40_18 y2_l40_18 y3_l40_18 S_l40_18 A_l40_18 = some (rv, rS, rA) → Wa Ev X rm_X4_values 5 h_l40_18 n 0 0 (rb_MQ Ev X rm_X4_values (pM Ev .int o a h n rv rS rA)) 40 [(0, .ref o), (1, .int v_14), (2, .int y2_l40_18), (3, .int y3_l40_18)] [] := by
            intro k_l40_18
            induction k_l40_18 with
            | zero => intro y2_l40_18 y3_l40_18 S_l40_18 A_l40_18 h_l40_18 hM hF hf; cases hf
            | succ k_l40_18 ih_l40_18 =>
              intro y2_l40_18 y3_l40_18 S_l40_18 A_l40_18 h_l40_18 hM hF hf
              rw [f_X4_values_l40_18] at hf
              refine rb_iload_n C dX4_values_40 rfl 3 rfl ?_
              refine rb_iload_n C dX4_values_41 rfl 1 rfl ?_
              refine rb_icmp_ge (tgt := 97) C dX4_values_42 (by decide) (fun c_19 => ?_) (fun c_19 => ?_)
              · have hf := (if_pos c_19).symm.trans hf
                refine rb_iload_n C dX4_values_97 rfl 2 rfl ?_
                cases hf
                exact rb_iret C rfl rfl (Nat.zero_le _) (Nat.zero_le _) dX4_values_98 ⟨rfl, rfl, hM, hF, rfl⟩
              · have hf := (if_neg c_19).symm.trans hf
                refine rb_aload_n C dX4_values_45 rfl 0 rfl ?_
                refine rb_get (v := .ref (a 27)) C fl_X4_57_X4 (Or.inl hM.1) rfl dX4_values_46 ?_
                refine rb_aload_n C dX4_values_49 rfl 0 rfl ?_
                refine rb_get (v := .ref (a 28)) C fl_X4_60_X4 (Or.inl hM.1) rfl dX4_values_50 ?_
                refine rb_aload_n C dX4_values_53 rfl 0 rfl ?_
                refine rb_get (v := .int (S_l40_18 26)) C fl_X4_220_X4 (Or.inl hM.1) rfl dX4_values_54 ?_
                refine rb_iconst (v := 1) C dX4_values_57 rfl ?_
                refine rb_isub C dX4_values_58 ?_
                by_cases c_g : (((S_l40_18 26) - 1) < 0 ∨ 64 ≤ ((S_l40_18 26) - 1).toNatClampNeg)
                · exact absurd ((if_pos c_g).symm.trans hf) (fun z => by cases z)
                have hf := (if_neg c_g).symm.trans hf
                refine rb_iald (f := (A_l40_18 28)) C (Or.inl (hM.2.1 28 rfl)) (rb_nN c_g) dX4_values_59 ?_
                refine rb_iload_n C dX4_values_60 rfl 3 rfl ?_
                refine rb_iadd C dX4_values_61 ?_
                by_cases c_g : ((((A_l40_18 28) ((S_l40_18 26) - 1).toNatClampNeg) + y3_l40_18) < 0 ∨ 1000 ≤ (((A_l40_18 28) ((S_l40_18 26) - 1).toNatClampNeg) + y3_l40_18).toNatClampNeg)
                · exact absurd ((if_pos c_g).symm.trans hf) (fun z => by cases z)
                have hf := (if_neg c_g).symm.trans hf
                refine rb_iald (f := (A_l40_18 27)) C (Or.inl (hM.2.1 27 rfl)) (rb_nN c_g) dX4_values_62 ?_
                refine rb_istore (lv' := [(4, .int ((A_l40_18 27) (((A_l40_18 28) ((S_l40_18 26) - 1).toNatClampNeg) + y3_l40_18).toNatClampNeg)), (0, .ref o), (1, .int v_14), (2, .int y2_l40_18), (3, .int y3_l40_18)]) C dX4_values_63 (by decide) rfl ?_
                refine rb_iload_n C dX4_values_65 rfl 3 rfl ?_
                refine rb_aload_n C dX4_values_66 rfl 1 rfl ?_
                refine rb_get (v := .ref (a 30)) C fl_X4_66_X4 (Or.inl hM.1) rfl dX4_values_67 ?_
                refine rb_iload C dX4_values_70 0 rfl ?_
                by_cases c_g : (((A_l40_18 27) (((A_l40_18 28) ((S_l40_18 26) - 1).toNatClampNeg) + y3_l40_18).toNatClampNeg) < 0 ∨ 1000 ≤ ((A_l40_18 27) (((A_l40_18 28) ((S_l40_18 26) - 1).toNatClampNeg) + y3_l40_18).toNatClampNeg).toNatClampNeg)
                · exact absurd ((if_pos c_g).symm.trans hf) (fun z => by cases z)
                have hf := (if_neg c_g).symm.trans hf
                refine rb_zald (f := (A_l40_18 30)) C (Or.inl (hM.2.1 30 rfl)) (rb_nN c_g) dX4_values_72 ?_
                have J_j81_21 : ∀ (w0_j81_21 : Int32), f_X4_values_j81_21 y2_l40_18 y3_l40_18 S_l40_18 A_l40_18 (f_X4_values_l40_18 v_14 k_l40_18) w0_j81_21 = some (rv, rS, rA) → Wa Ev X rm_X4_values 5 h_l40_18 n 0 0 (rb_MQ Ev X rm_X4_values (pM Ev .int o a h n rv rS rA)) 81 [(0, .ref o), (1, .int v_14), (2, .int y2_l40_18), (3, .int y3_l40_18), (4, .int ((A_l40_18 27) (((A_l40_18 28) ((S_l40_18 26) - 1).toNatClampNeg) + y3_l40_18).toNatClampNeg))] [.int w0_j81_21, .int y2_l40_18] := by
                  intro w0_j81_21 hf
                  rw [f_X4_values_j81_21] at hf
                  refine rb_iadd C dX4_values_81 ?_
                  refine rb_istore_n (lv' := [(2, .int (y2_l40_18 + w0_j81_21)), (0, .ref o), (1, .int v_14), (3, .int y3_l40_18), (4, .int ((A_l40_18 27) (((A_l40_18 28) ((S_l40_18 26) - 1).toNatClampNeg) + y3_l40_18).toNatClampNeg))]) C dX4_values_82 rfl (by decide) rfl ?_
                  refine rb_aload_n C dX4_values_83 rfl 1 rfl ?_
                  refine rb_get (v := .ref (a 30)) C fl_X4_66_X4 (Or.inl hM.1) rfl dX4_values_84 ?_
                  refine rb_iload C dX4_values_87 4 rfl ?_
                  refine rb_iconst (v := 1) C dX4_values_89 rfl ?_
                  by_cases c_g : (((A_l40_18 27) (((A_l40_18 28) ((S_l40_18 26) - 1).toNatClampNeg) + y3_l40_18).toNatClampNeg) < 0 ∨ 1000 ≤ ((A_l40_18 27) (((A_l40_18 28) ((S_l40_18 26) - 1).toNatClampNeg) + y3_l40_18).toNatClampNeg).toNatClampNeg)
                  · exact absurd ((if_pos c_g).symm.trans hf) (fun z => by cases z)
                  have hf := (if_neg c_g).symm.trans hf
                  refine rb_zast (f := (A_l40_18 30)) C (hM.2.1 30 rfl) (rb_nN c_g) dX4_values_90 (fun h_22 e1 e2 => ?_)
                  have hM : MD Ev h_22 o a S_l40_18 (va_up A_l40_18 30 (upd (A_l40_18 30) ((A_l40_18 27) (((A_l40_18 28) ((S_l40_18 26) - 1).toNatClampNeg) + y3_l40_18).toNatClampNeg).toNatClampNeg (vp_nar .boolean 1))) := hM.ast 30 rfl e1 e2
                  have hF := hF.ast 30 rfl e2
                  refine rb_iinc (v := (y3_l40_18 + 1)) (lv' := [(3, .int (y3_l40_18 + 1)), (2, .int (y2_l40_18 + w0_j81_21)), (0, .ref o), (1, .int v_14), (4, .int ((A_l40_18 27) (((A_l40_18 28) ((S_l40_18 26) - 1).toNatClampNeg) + y3_l40_18).toNatClampNeg))]) C dX4_values_91 (k := 3) rfl rfl (by decide) rfl ?_
                  refine rb_goto (tgt := 40) C dX4_values_94 (by decide) ?_
                  refine rb_sub [2, 3, 1, 0] rfl ?_
                  exact ih_l40_18 (y2_l40_18 + w0_j81_21) (y3_l40_18 + 1) S_l40_18 (va_up A_l40_18 30 (upd (A_l40_18 30) ((A_l40_18 27) (((A_l40_18 28) ((S_l40_18 26) - 1).toNatClampNeg) + y3_l40_18).toNatClampNeg).toNatClampNeg (vp_nar .boolean 1))) h_22 hM hF hf
                refine rb_if_eq (tgt := 80) C dX4_values_73 (by decide) (fun c_20 => ?_) (fun c_20 => ?_)
                · have hf := (if_pos c_20).symm.trans hf
                  refine rb_iconst (v := 1) C dX4_values_80 rfl ?_
                  refine rb_sub [1, 2, 3, 4, 0] rfl ?_
                  exact J_j81_21 1 hf
                · have hf := (if_neg c_20).symm.trans hf
                  refine rb_iconst (v := 0) C dX4_values_76 rfl ?_
                  refine rb_goto (tgt := 81) C dX4_values_77 (by decide) ?_
                  refine rb_sub [1, 2, 3, 4, 0] rfl ?_
                  exact J_j81_21 0 hf
          refine rb_sub [1, 2, 3, 0] rfl ?_
          exact L_l40_18 4096 0 0 S_l18_16 A_l18_16 h_l18_16 hM hF hf
        · have hf := (if_neg c_17).symm.trans hf
          refine rb_aload_n C dX4_values_25 rfl 0 rfl ?_
          refine rb_get (v := .ref (a 30)) C fl_X4_66_X4 (Or.inl hM.1) rfl dX4_values_26 ?_
          refine rb_iload_n C dX4_values_29 rfl 3 rfl ?_
          refine rb_iconst (v := 0) C dX4_values_30 rfl ?_
          by_cases c_g : (y3_l18_16 < 0 ∨ 1000 ≤ y3_l18_16.toNatClampNeg)
          · exact absurd ((if_pos c_g).symm.trans hf) (fun z => by cases z)
          have hf := (if_neg c_g).symm.trans hf
          refine rb_zast (f := (A_l18_16 30)) C (hM.2.1 30 rfl) (rb_nN c_g) dX4_values_31 (fun h_23 e1 e2 => ?_)
          have hM : MD Ev h_23 o a S_l18_16 (va_up A_l18_16 30 (upd (A_l18_16 30) y3_l18_16.toNatClampNeg (vp_nar .boolean 0))) := hM.ast 30 rfl e1 e2
          have hF := hF.ast 30 rfl e2
          refine rb_iinc (v := (y3_l18_16 + 1)) (lv' := [(3, .int (y3_l18_16 + 1)), (0, .ref o), (1, .int v_14), (2, .int 0)]) C dX4_values_32 (k := 3) rfl rfl (by decide) rfl ?_
          refine rb_goto (tgt := 18) C dX4_values_35 (by decide) ?_
          refine rb_sub [1, 2, 3, 0] rfl ?_
          exact ih_l18_16 (y3_l18_16 + 1) S_l18_16 (va_up A_l18_16 30 (upd (A_l18_16 30) y3_l18_16.toNatClampNeg (vp_nar .boolean 0))) h_23 hM hF hf
    refine rb_sub [3, 2, 1, 0] rfl ?_
    exact L_l18_16 4096 0 S_11 A_12 h_13 hM hF hf
  · have hf := (if_pos c_8).symm.trans hf
    refine rb_iconst (v := 0) C dX4_values_7 rfl ?_
    cases hf
    exact rb_iret C rfl rfl (Nat.zero_le _) (Nat.zero_le _) dX4_values_8 ⟨rfl, rfl, hM, hF, rfl⟩
