set_option maxRecDepth 100000
set_option linter.unusedVariables false
def f_X4_thrown (S : Nat → Int32) (A : Nat → Nat → Int32) : Option Int32 := (some (S 8))
abbrev rm_X4_thrown : Room := { frames := 0, cells := 0, slots := 0, locals := 0 }
set_option maxHeartbeats 4000000 in
theorem ct_X4_thrown (Ev : rb_E) (h : AH) (n : Nat) (o : Nat) (a : Nat → Nat) (S : Nat → Int32) (A : Nat → Nat → Int32)  (rv : Int32) (hM : MD Ev h o a S A) (hf : f_X4_thrown S A = some rv) : Ct Ev yX4_thrown (ws_ yX4_thrown cX4_thrown 1 (some .int)) rm_X4_thrown [.ref o] h n (pR .int rv h n) := by
  refine Ct.of rfl (Nat.le_of_ble_eq_true rfl) fun X C hnm => ?_
  have C : Cx Ev X RX4 cX4_thrown 1 (some .int) [] := C
  show Wa Ev X rm_X4_thrown 1 h n 0 0 (rb_MQ Ev X rm_X4_thrown (pR .int rv h n)) 0 [(0, .ref o)] []
  have hF : mdFr h h o a := mdFr.rf
  rw [f_X4_thrown] at hf
  refine rb_aload_n C dX4_thrown_0 rfl 0 rfl ?_
  refine rb_get (v := .int (S 8)) C fl_X4_73_X4 (Or.inl hM.1) rfl dX4_thrown_1 ?_
  cases hf
  exact rb_iret C rfl rfl (Nat.zero_le _) (Nat.zero_le _) dX4_thrown_4 ⟨rfl, rfl, rfl, rfl⟩
def f_X4_in (x0 : Int32) (x1 : Int32) (x2 : Int32) : Int32 := (if x0 < x1 then 0 else (if x2 < x0 then 0 else 1))
abbrev rm_X4_in : Room := { frames := 0, cells := 0, slots := 0, locals := 0 }
set_option maxHeartbeats 4000000 in
theorem ct_X4_in (Ev : rb_E) (h : AH) (n : Nat) (x0 : Int32) (x1 : Int32) (x2 : Int32) (rv : Int32) (hf : f_X4_in x0 x1 x2 = rv) : Ct Ev yX4_in (ws_ yX4_in cX4_in 3 (some .boolean)) rm_X4_in [.int x0, .int x1, .int x2] h n (pR .boolean rv h n) := by
  refine Ct.of rfl (Nat.le_of_ble_eq_true rfl) fun X C hnm => ?_
  have C : Cx Ev X RX4 cX4_in 3 (some .boolean) [] := C
  show Wa Ev X rm_X4_in 3 h n 0 0 (rb_MQ Ev X rm_X4_in (pR .boolean rv h n)) 0 [(0, .int x0), (1, .int x1), (2, .int x2)] []
  rw [f_X4_in] at hf
  refine rb_iload_n C dX4_in_0 rfl 0 rfl ?_
  refine rb_iload_n C dX4_in_1 rfl 1 rfl ?_
  refine rb_icmp_lt (tgt := 14) C dX4_in_2 (by decide) (fun c_1 => ?_) (fun c_1 => ?_)
  · have hf := (if_pos c_1).symm.trans hf
    refine rb_iconst (v := 0) C dX4_in_14 rfl ?_
    subst hf
    exact rb_iret C rfl rfl (Nat.zero_le _) (Nat.zero_le _) dX4_in_15 ⟨rfl, rfl, rfl, rfl⟩
  · have hf := (if_neg c_1).symm.trans hf
    refine rb_iload_n C dX4_in_5 rfl 0 rfl ?_
    refine rb_iload_n C dX4_in_6 rfl 2 rfl ?_
    refine rb_icmp_gt (tgt := 14) C dX4_in_7 (by decide) (fun c_2 => ?_) (fun c_2 => ?_)
    · have hf := (if_pos c_2).symm.trans hf
      refine rb_iconst (v := 0) C dX4_in_14 rfl ?_
      subst hf
      exact rb_iret C rfl rfl (Nat.zero_le _) (Nat.zero_le _) dX4_in_15 ⟨rfl, rfl, rfl, rfl⟩
    · have hf := (if_neg c_2).symm.trans hf
      refine rb_iconst (v := 1) C dX4_in_10 rfl ?_
      refine rb_goto (tgt := 15) C dX4_in_11 (by decide) ?_
      subst hf
      exact rb_iret C rfl rfl (Nat.zero_le _) (Nat.zero_le _) dX4_in_15 ⟨rfl, rfl, rfl, rfl⟩
def f_X4_isSky (x0 : Int32) : Int32 := (f_X4_in x0 65 69)
abbrev rm_X4_isSky : Room := { frames := 1, cells := 0, slots := 0, locals := 22 }
set_option maxHeartbeats 4000000 in
theorem ct_X4_isSky (Ev : rb_E) (h : AH) (n : Nat) (x0 : Int32) (rv : Int32) (hf : f_X4_isSky x0 = rv) : Ct Ev yX4_isSky (ws_ yX4_isSky cX4_isSky 1 (some .boolean)) rm_X4_isSky [.int x0] h n (pR .boolean rv h n) := by
  refine Ct.of rfl (Nat.le_of_ble_eq_true rfl) fun X C hnm => ?_
  have C : Cx Ev X RX4 cX4_isSky 1 (some .boolean) [] := C
  show Wa Ev X rm_X4_isSky 1 h n 0 0 (rb_MQ Ev X rm_X4_isSky (pR .boolean rv h n)) 0 [(0, .int x0)] []
  rw [f_X4_isSky] at hf
  refine rb_iload_n C dX4_isSky_0 rfl 0 rfl ?_
  refine rb_bipush (v := 65) C dX4_isSky_1 rfl ?_
  refine rb_bipush (v := 69) C dX4_isSky_3 rfl ?_
  refine rb_zSR C mi_X4_in ss_X4_103 (ct_X4_in Ev h n x0 65 69 _ rfl) (rest := []) rfl rfl (Nat.le_of_ble_eq_true rfl) ⟨Nat.le_of_ble_eq_true rfl, Nat.le_of_ble_eq_true rfl⟩ ⟨Nat.zero_le _, Nat.zero_le _⟩ dX4_isSky_5 (fun hn_1 => ?_)
  subst hf
  exact rb_iret C rfl hn_1 (Nat.zero_le _) (Nat.zero_le _) dX4_isSky_8 ⟨rfl, rfl, rfl, hn_1⟩
def f_X4_isOperand (x0 : Int32) : Int32 := (if (f_X4_in x0 48 57) = 0 then (if (f_X4_isSky x0) = 0 then 0 else 1) else 1)
abbrev rm_X4_isOperand : Room := { frames := 2, cells := 0, slots := 0, locals := 42 }
set_option maxHeartbeats 4000000 in
theorem ct_X4_isOperand (Ev : rb_E) (h : AH) (n : Nat) (x0 : Int32) (rv : Int32) (hf : f_X4_isOperand x0 = rv) : Ct Ev yX4_isOperand (ws_ yX4_isOperand cX4_isOperand 1 (some .boolean)) rm_X4_isOperand [.int x0] h n (pR .boolean rv h n) := by
  refine Ct.of rfl (Nat.le_of_ble_eq_true rfl) fun X C hnm => ?_
  have C : Cx Ev X RX4 cX4_isOperand 1 (some .boolean) [] := C
  show Wa Ev X rm_X4_isOperand 1 h n 0 0 (rb_MQ Ev X rm_X4_isOperand (pR .boolean rv h n)) 0 [(0, .int x0)] []
  rw [f_X4_isOperand] at hf
  refine rb_iload_n C dX4_isOperand_0 rfl 0 rfl ?_
  refine rb_bipush (v := 48) C dX4_isOperand_1 rfl ?_
  refine rb_bipush (v := 57) C dX4_isOperand_3 rfl ?_
  refine rb_zSR C mi_X4_in ss_X4_103 (ct_X4_in Ev h n x0 48 57 _ rfl) (rest := []) rfl rfl (Nat.le_of_ble_eq_true rfl) ⟨Nat.le_of_ble_eq_true rfl, Nat.le_of_ble_eq_true rfl⟩ ⟨Nat.zero_le _, Nat.zero_le _⟩ dX4_isOperand_5 (fun hn_1 => ?_)
  refine rb_if_ne (tgt := 18) C dX4_isOperand_8 (by decide) (fun c_2 => ?_) (fun c_2 => ?_)
  · have hf := (if_neg c_2).symm.trans hf
    refine rb_iconst (v := 1) C dX4_isOperand_18 rfl ?_
    refine rb_goto (tgt := 23) C dX4_isOperand_19 (by decide) ?_
    subst hf
    exact rb_iret C rfl rfl (Nat.zero_le _) (Nat.zero_le _) dX4_isOperand_23 ⟨rfl, rfl, rfl, rfl⟩
  · have hf := (if_pos c_2).symm.trans hf
    refine rb_iload_n C dX4_isOperand_11 rfl 0 rfl ?_
    refine rb_zSR C mi_X4_isSky ss_X4_107 (ct_X4_isSky Ev h n x0 _ rfl) (rest := []) rfl rfl (Nat.le_of_ble_eq_true rfl) ⟨Nat.le_of_ble_eq_true rfl, Nat.le_of_ble_eq_true rfl⟩ ⟨Nat.zero_le _, Nat.zero_le _⟩ dX4_isOperand_12 (fun hn_3 => ?_)
    refine rb_if_eq (tgt := 22) C dX4_isOperand_15 (by decide) (fun c_4 => ?_) (fun c_4 => ?_)
    · have hf := (if_pos c_4).symm.trans hf
      refine rb_iconst (v := 0) C dX4_isOperand_22 rfl ?_
      subst hf
      exact rb_iret C rfl rfl (Nat.zero_le _) (Nat.zero_le _) dX4_isOperand_23 ⟨rfl, rfl, rfl, rfl⟩
    · have hf := (if_neg c_4).symm.trans hf
      refine rb_iconst (v := 1) C dX4_isOperand_18 rfl ?_
      refine rb_goto (tgt := 23) C dX4_isOperand_19 (by decide) ?_
      subst hf
      exact rb_iret C rfl rfl (Nat.zero_le _) (Nat.zero_le _) dX4_isOperand_23 ⟨rfl, rfl, rfl, rfl⟩
def f_X4_signOf (x0 : Int32) : Int32 := (if x0 = 37 then 3 else (if x0 = 38 then 5 else (if x0 = 42 then 2 else (if x0 = 43 then 0 else (if x0 = 45 then 1 else (if x0 = 94 then 4 else (if x0 = 126 then 6 else (-1))))))))
abbrev rm_X4_signOf : Room := { frames := 0, cells := 0, slots := 0, locals := 0 }
set_option maxHeartbeats 4000000 in
theorem ct_X4_signOf (Ev : rb_E) (h : AH) (n : Nat) (x0 : Int32) (rv : Int32) (hf : f_X4_signOf x0 = rv) : Ct Ev yX4_signOf (ws_ yX4_signOf cX4_signOf 1 (some .int)) rm_X4_signOf [.int x0] h n (pR .int rv h n) := by
  refine Ct.of rfl (Nat.le_of_ble_eq_true rfl) fun X C hnm => ?_
  have C : Cx Ev X RX4 cX4_signOf 1 (some .int) [] := C
  show Wa Ev X rm_X4_signOf 1 h n 0 0 (rb_MQ Ev X rm_X4_signOf (pR .int rv h n)) 0 [(0, .int x0)] []
  rw [f_X4_signOf] at hf
  refine rb_iload_n C dX4_signOf_0 rfl 0 rfl ?_
  by_cases c_1 : x0 = 37
  · have hf := (if_pos c_1).symm.trans hf
    refine rb_top (.int 37) (by rw [c_1]) ?_
    refine rb_lookup (tgt := 74) C dX4_signOf_1 (by decide) (off := 73) (by decide) (by decide) ?_
    refine rb_iconst (v := 3) C dX4_signOf_74 rfl ?_
    subst hf
    exact rb_iret C rfl rfl (Nat.zero_le _) (Nat.zero_le _) dX4_signOf_75 ⟨rfl, rfl, rfl, rfl⟩
  have hf := (if_neg c_1).symm.trans hf
  by_cases c_2 : x0 = 38
  · have hf := (if_pos c_2).symm.trans hf
    refine rb_top (.int 38) (by rw [c_2]) ?_
    refine rb_lookup (tgt := 78) C dX4_signOf_1 (by decide) (off := 77) (by decide) (by decide) ?_
    refine rb_iconst (v := 5) C dX4_signOf_78 rfl ?_
    subst hf
    exact rb_iret C rfl rfl (Nat.zero_le _) (Nat.zero_le _) dX4_signOf_79 ⟨rfl, rfl, rfl, rfl⟩
  have hf := (if_neg c_2).symm.trans hf
  by_cases c_3 : x0 = 42
  · have hf := (if_pos c_3).symm.trans hf
    refine rb_top (.int 42) (by rw [c_3]) ?_
    refine rb_lookup (tgt := 72) C dX4_signOf_1 (by decide) (off := 71) (by decide) (by decide) ?_
    refine rb_iconst (v := 2) C dX4_signOf_72 rfl ?_
    subst hf
    exact rb_iret C rfl rfl (Nat.zero_le _) (Nat.zero_le _) dX4_signOf_73 ⟨rfl, rfl, rfl, rfl⟩
  have hf := (if_neg c_3).symm.trans hf
  by_cases c_4 : x0 = 43
  · have hf := (if_pos c_4).symm.trans hf
    refine rb_top (.int 43) (by rw [c_4]) ?_
    refine rb_lookup (tgt := 68) C dX4_signOf_1 (by decide) (off := 67) (by decide) (by decide) ?_
    refine rb_iconst (v := 0) C dX4_signOf_68 rfl ?_
    subst hf
    exact rb_iret C rfl rfl (Nat.zero_le _) (Nat.zero_le _) dX4_signOf_69 ⟨rfl, rfl, rfl, rfl⟩
  have hf := (if_neg c_4).symm.trans hf
  by_cases c_5 : x0 = 45
  · have hf := (if_pos c_5).symm.trans hf
    refine rb_top (.int 45) (by rw [c_5]) ?_
    refine rb_lookup (tgt := 70) C dX4_signOf_1 (by decide) (off := 69) (by decide) (by decide) ?_
    refine rb_iconst (v := 1) C dX4_signOf_70 rfl ?_
    subst hf
    exact rb_iret C rfl rfl (Nat.zero_le _) (Nat.zero_le _) dX4_signOf_71 ⟨rfl, rfl, rfl, rfl⟩
  have hf := (if_neg c_5).symm.trans hf
  by_cases c_6 : x0 = 94
  · have hf := (if_pos c_6).symm.trans hf
    refine rb_top (.int 94) (by rw [c_6]) ?_
    refine rb_lookup (tgt := 76) C dX4_signOf_1 (by decide) (off := 75) (by decide) (by decide) ?_
    refine rb_iconst (v := 4) C dX4_signOf_76 rfl ?_
    subst hf
    exact rb_iret C rfl rfl (Nat.zero_le _) (Nat.zero_le _) dX4_signOf_77 ⟨rfl, rfl, rfl, rfl⟩
  have hf := (if_neg c_6).symm.trans hf
  by_cases c_7 : x0 = 126
  · have hf := (if_pos c_7).symm.trans hf
    refine rb_top (.int 126) (by rw [c_7]) ?_
    refine rb_lookup (tgt := 80) C dX4_signOf_1 (by decide) (off := 79) (by decide) (by decide) ?_
    refine rb_bipush (v := 6) C dX4_signOf_80 rfl ?_
    subst hf
    exact rb_iret C rfl rfl (Nat.zero_le _) (Nat.zero_le _) dX4_signOf_82 ⟨rfl, rfl, rfl, rfl⟩
  have hf := (if_neg c_7).symm.trans hf
  refine rb_lookup (tgt := 83) C dX4_signOf_1 (by decide) (off := 82) (by show Op.lookupswitch.offset [(37, 73), (38, 77), (42, 71), (43, 67), (45, 69), (94, 75), (126, 79)] 82 _ = _; rw [lv_osw (k := 37) (a := 37) c_1 (by decide), lv_osw (k := 38) (a := 38) c_2 (by decide), lv_osw (k := 42) (a := 42) c_3 (by decide), lv_osw (k := 43) (a := 43) c_4 (by decide), lv_osw (k := 45) (a := 45) c_5 (by decide), lv_osw (k := 94) (a := 94) c_6 (by decide), lv_osw (k := 126) (a := 126) c_7 (by decide)]; rfl) (by decide) ?_
  refine rb_iconst (v := (-1)) C dX4_signOf_83 rfl ?_
  subst hf
  exact rb_iret C rfl rfl (Nat.zero_le _) (Nat.zero_le _) dX4_signOf_84 ⟨rfl, rfl, rfl, rfl⟩
def f_X4_isSun (x0 : Int32) : Int32 := (if x0 = 40 then 1 else (if x0 = 41 then 1 else 0))
abbrev rm_X4_isSun : Room := { frames := 0, cells := 0, slots := 0, locals := 0 }
set_option maxHeartbeats 4000000 in
theorem ct_X4_isSun (Ev : rb_E) (h : AH) (n : Nat) (x0 : Int32) (rv : Int32) (hf : f_X4_isSun x0 = rv) : Ct Ev yX4_isSun (ws_ yX4_isSun cX4_isSun 1 (some .boolean)) rm_X4_isSun [.int x0] h n (pR .boolean rv h n) := by
  refine Ct.of rfl (Nat.le_of_ble_eq_true rfl) fun X C hnm => ?_
  have C : Cx Ev X RX4 cX4_isSun 1 (some .boolean) [] := C
  show Wa Ev X rm_X4_isSun 1 h n 0 0 (rb_MQ Ev X rm_X4_isSun (pR .boolean rv h n)) 0 [(0, .int x0)] []
  rw [f_X4_isSun] at hf
  refine rb_iload_n C dX4_isSun_0 rfl 0 rfl ?_
  refine rb_bipush (v := 40) C dX4_isSun_1 rfl ?_
  refine rb_icmp_eq (tgt := 12) C dX4_isSun_3 (by decide) (fun c_1 => ?_) (fun c_1 => ?_)
  · have hf := (if_pos c_1).symm.trans hf
    refine rb_iconst (v := 1) C dX4_isSun_12 rfl ?_
    refine rb_goto (tgt := 17) C dX4_isSun_13 (by decide) ?_
    subst hf
    exact rb_iret C rfl rfl (Nat.zero_le _) (Nat.zero_le _) dX4_isSun_17 ⟨rfl, rfl, rfl, rfl⟩
  · have hf := (if_neg c_1).symm.trans hf
    refine rb_iload_n C dX4_isSun_6 rfl 0 rfl ?_
    refine rb_bipush (v := 41) C dX4_isSun_7 rfl ?_
    refine rb_icmp_ne (tgt := 16) C dX4_isSun_9 (by decide) (fun c_2 => ?_) (fun c_2 => ?_)
    · have hf := (if_neg c_2).symm.trans hf
      refine rb_iconst (v := 0) C dX4_isSun_16 rfl ?_
      subst hf
      exact rb_iret C rfl rfl (Nat.zero_le _) (Nat.zero_le _) dX4_isSun_17 ⟨rfl, rfl, rfl, rfl⟩
    · have hf := (if_pos c_2).symm.trans hf
      refine rb_iconst (v := 1) C dX4_isSun_12 rfl ?_
      refine rb_goto (tgt := 17) C dX4_isSun_13 (by decide) ?_
      subst hf
      exact rb_iret C rfl rfl (Nat.zero_le _) (Nat.zero_le _) dX4_isSun_17 ⟨rfl, rfl, rfl, rfl⟩
def f_X4_isCharacter (x0 : Int32) : Int32 := (if (f_X4_isOperand x0) = 0 then (if 0 ≤ (f_X4_signOf x0) then 1 else (if (f_X4_isSun x0) = 0 then 0 else 1)) else 1)
abbrev rm_X4_isCharacter : Room := { frames := 3, cells := 0, slots := 0, locals := 62 }
set_option maxHeartbeats 4000000 in
theorem ct_X4_isCharacter (Ev : rb_E) (h : AH) (n : Nat) (x0 : Int32) (rv : Int32) (hf : f_X4_isCharacter x0 = rv) : Ct Ev yX4_isCharacter (ws_ yX4_isCharacter cX4_isCharacter 1 (some .boolean)) rm_X4_isCharacter [.int x0] h n (pR .boolean rv h n) := by
  refine Ct.of rfl (Nat.le_of_ble_eq_true rfl) fun X C hnm => ?_
  have C : Cx Ev X RX4 cX4_isCharacter 1 (some .boolean) [] := C
  show Wa Ev X rm_X4_isCharacter 1 h n 0 0 (rb_MQ Ev X rm_X4_isCharacter (pR .boolean rv h n)) 0 [(0, .int x0)] []
  rw [f_X4_isCharacter] at hf
  refine rb_iload_n C dX4_isCharacter_0 rfl 0 rfl ?_
  refine rb_zSR C mi_X4_isOperand ss_X4_111 (ct_X4_isOperand Ev h n x0 _ rfl) (rest := []) rfl rfl (Nat.le_of_ble_eq_true rfl) ⟨Nat.le_of_ble_eq_true rfl, Nat.le_of_ble_eq_true rfl⟩ ⟨Nat.zero_le _, Nat.zero_le _⟩ dX4_isCharacter_1 (fun hn_1 => ?_)
  refine rb_if_ne (tgt := 21) C dX4_isCharacter_4 (by decide) (fun c_2 => ?_) (fun c_2 => ?_)
  · have hf := (if_neg c_2).symm.trans hf
    refine rb_iconst (v := 1) C dX4_isCharacter_21 rfl ?_
    refine rb_goto (tgt := 26) C dX4_isCharacter_22 (by decide) ?_
    subst hf
    exact rb_iret C rfl rfl (Nat.zero_le _) (Nat.zero_le _) dX4_isCharacter_26 ⟨rfl, rfl, rfl, rfl⟩
  · have hf := (if_pos c_2).symm.trans hf
    refine rb_iload_n C dX4_isCharacter_7 rfl 0 rfl ?_
    refine rb_zSR C mi_X4_signOf ss_X4_99 (ct_X4_signOf Ev h n x0 _ rfl) (rest := []) rfl rfl (Nat.le_of_ble_eq_true rfl) ⟨Nat.le_of_ble_eq_true rfl, Nat.le_of_ble_eq_true rfl⟩ ⟨Nat.zero_le _, Nat.zero_le _⟩ dX4_isCharacter_8 (fun hn_3 => ?_)
    refine rb_if_ge (tgt := 21) C dX4_isCharacter_11 (by decide) (fun c_4 => ?_) (fun c_4 => ?_)
    · have hf := (if_pos c_4).symm.trans hf
      refine rb_iconst (v := 1) C dX4_isCharacter_21 rfl ?_
      refine rb_goto (tgt := 26) C dX4_isCharacter_22 (by decide) ?_
      subst hf
      exact rb_iret C rfl rfl (Nat.zero_le _) (Nat.zero_le _) dX4_isCharacter_26 ⟨rfl, rfl, rfl, rfl⟩
    · have hf := (if_neg c_4).symm.trans hf
      refine rb_iload_n C dX4_isCharacter_14 rfl 0 rfl ?_
      refine rb_zSR C mi_X4_isSun ss_X4_114 (ct_X4_isSun Ev h n x0 _ rfl) (rest := []) rfl rfl (Nat.le_of_ble_eq_true rfl) ⟨Nat.le_of_ble_eq_true rfl, Nat.le_of_ble_eq_true rfl⟩ ⟨Nat.zero_le _, Nat.zero_le _⟩ dX4_isCharacter_15 (fun hn_5 => ?_)
      refine rb_if_eq (tgt := 25) C dX4_isCharacter_18 (by decide) (fun c_6 => ?_) (fun c_6 => ?_)
      · have hf := (if_pos c_6).symm.trans hf
        refine rb_iconst (v := 0) C dX4_isCharacter_25 rfl ?_
        subst hf
        exact rb_iret C rfl rfl (Nat.zero_le _) (Nat.zero_le _) dX4_isCharacter_26 ⟨rfl, rfl, rfl, rfl⟩
      · have hf := (if_neg c_6).symm.trans hf
        refine rb_iconst (v := 1) C dX4_isCharacter_21 rfl ?_
        refine rb_goto (tgt := 26) C dX4_isCharacter_22 (by decide) ?_
        subst hf
        exact rb_iret C rfl rfl (Nat.zero_le _) (Nat.zero_le _) dX4_isCharacter_26 ⟨rfl, rfl, rfl, rfl⟩
def f_X4_fails (S : Nat → Int32) (A : Nat → Nat → Int32) (x1 : Int32) : Option (Int32 × (Nat → Int32) × (Nat → Nat → Int32)) := (if x1 ≤ 0 then (some (0, (upd (upd S 8 x1) 7 0), A)) else (some (1, (upd (upd S 8 x1) 7 0), A)))
abbrev rm_X4_fails : Room := { frames := 0, cells := 0, slots := 0, locals := 0 }
set_option maxHeartbeats 4000000 in
theorem ct_X4_fails (Ev : rb_E) (h : AH) (n : Nat) (o : Nat) (a : Nat → Nat) (S : Nat → Int32) (A : Nat → Nat → Int32) (x1 : Int32) (rv : Int32) (rS : Nat → Int32) (rA : Nat → Nat → Int32) (hM : MD Ev h o a S A) (hf : f_X4_fails S A x1 = some (rv, rS, rA)) : Ct Ev yX4_fails (ws_ yX4_fails cX4_fails 2 (some .boolean)) rm_X4_fails [.ref o, .int x1] h n (pM Ev .boolean o a h n rv rS rA) := by
  refine Ct.of rfl (Nat.le_of_ble_eq_true rfl) fun X C hnm => ?_
  have C : Cx Ev X RX4 cX4_fails 2 (some .boolean) [] := C
  show Wa Ev X rm_X4_fails 2 h n 0 0 (rb_MQ Ev X rm_X4_fails (pM Ev .boolean o a h n rv rS rA)) 0 [(0, .ref o), (1, .int x1)] []
  have hF : mdFr h h o a := mdFr.rf
  rw [f_X4_fails] at hf
  refine rb_aload_n C dX4_fails_0 rfl 0 rfl ?_
  refine rb_iload_n C dX4_fails_1 rfl 1 rfl ?_
  refine rb_put (v := .int x1) C fw_X4_73_X4 hM.1 rfl rfl (Nat.le_of_ble_eq_true rfl) dX4_fails_2 (fun h_1 e1 e2 => ?_)
  have hM : MD Ev h_1 o a (upd S 8 x1) A := hM.put e1 e2 rfl
  have hF := hF.put e2
  refine rb_aload_n C dX4_fails_5 rfl 0 rfl ?_
  refine rb_iconst (v := 0) C dX4_fails_6 rfl ?_
  refine rb_put (v := .int 0) C fw_X4_76_X4 hM.1 rfl rfl (Nat.le_of_ble_eq_true rfl) dX4_fails_7 (fun h_2 e1 e2 => ?_)
  have hM : MD Ev h_2 o a (upd (upd S 8 x1) 7 0) A := hM.put e1 e2 rfl
  have hF := hF.put e2
  refine rb_iload_n C dX4_fails_10 rfl 1 rfl ?_
  refine rb_if_le (tgt := 18) C dX4_fails_11 (by decide) (fun c_3 => ?_) (fun c_3 => ?_)
  · have hf := (if_pos c_3).symm.trans hf
    refine rb_iconst (v := 0) C dX4_fails_18 rfl ?_
    cases hf
    exact rb_iret C rfl rfl (Nat.zero_le _) (Nat.zero_le _) dX4_fails_19 ⟨rfl, rfl, hM, hF, rfl⟩
  · have hf := (if_neg c_3).symm.trans hf
    refine rb_iconst (v := 1) C dX4_fails_14 rfl ?_
    refine rb_goto (tgt := 19) C dX4_fails_15 (by decide) ?_
    cases hf
    exact rb_iret C rfl rfl (Nat.zero_le _) (Nat.zero_le _) dX4_fails_19 ⟨rfl, rfl, hM, hF, rfl⟩
def f_X4_copies_0_1_l3_1 (x1 : Int32) (x3 : Int32) : Nat → Int32 → (Nat → Int32) → (Nat → Nat → Int32) → Option ((Nat → Int32) × (Nat → Nat → Int32))
  | 0, _, _, _ => none
  | k_l3_1 + 1, y4_l3_1, S_l3_1, A_l3_1 => (if 44 ≤ y4_l3_1 then (some (S_l3_1, A_l3_1)) else if ((x1 + y4_l3_1) < 0 ∨ 44 ≤ (x1 + y4_l3_1).toNatClampNeg) then none else if ((x3 + y4_l3_1) < 0 ∨ 352 ≤ (x3 + y4_l3_1).toNatClampNeg) then none else ((f_X4_copies_0_1_l3_1 x1 x3 k_l3_1) (y4_l3_1 + 1) S_l3_1 (va_up A_l3_1 1 (upd (A_l3_1 1) (x3 + y4_l3_1).toNatClampNeg ((A_l3_1 0) (x1 + y4_l3_1).toNatClampNeg)))))
def f_X4_copies_0_1 (S : Nat → Int32) (A : Nat → Nat → Int32) (x1 : Int32) (x3 : Int32) : Option ((Nat → Int32) × (Nat → Nat → Int32)) := (f_X4_copies_0_1_l3_1 x1 x3 4096 0 S A)
abbrev rm_X4_copies_0_1 : Room := { frames := 0, cells := 0, slots := 0, locals := 0 }
set_option maxHeartbeats 4000000 in
theorem ct_X4_copies_0_1 (Ev : rb_E) (h : AH) (n : Nat) (o : Nat) (a : Nat → Nat) (S : Nat → Int32) (A : Nat → Nat → Int32) (x1 : Int32) (x3 : Int32) (rS : Nat → Int32) (rA : Nat → Nat → Int32) (hM : MD Ev h o a S A) (hf : f_X4_copies_0_1 S A x1 x3 = some (rS, rA)) : Ct Ev yX4_copies (ws_ yX4_copies cX4_copies 5 none) rm_X4_copies_0_1 [.ref (a 0), .int x1, .ref (a 1), .int x3] h n (pMv Ev o a h n none rS rA) := by
  refine Ct.of rfl (Nat.le_of_ble_eq_true rfl) fun X C hnm => ?_
  have C : Cx Ev X RX4 cX4_copies 5 none [] := C
  show Wa Ev X rm_X4_copies_0_1 5 h n 0 0 (rb_MQ Ev X rm_X4_copies_0_1 (pMv Ev o a h n none rS rA)) 0 [(0, .ref (a 0)), (1, .int x1), (2, .ref (a 1)), (3, .int x3)] []
  have hF : mdFr h h o a := mdFr.rf
  rw [f_X4_copies_0_1] at hf
  refine rb_iconst (v := 0) C dX4_copies_0 rfl ?_
  refine rb_istore (lv' := [(4, .int 0), (0, .ref (a 0)), (1, .int x1), (2, .ref (a 1)), (3, .int x3)]) C dX4_copies_1 (by decide) rfl ?_
  have L_l3_1 : ∀ (k_l3_1 : Nat) (y4_l3_1 : Int32) (S_l3_1 : Nat → Int32) (A_l3_1 : Nat → Nat → Int32) (h_l3_1 : AH), MD Ev h_l3_1 o a S_l3_1 A_l3_1 → mdFr h h_l3_1 o a → f_X4_copies_0_1_l3_1 x1 x3 k_l3_1 y4_l3_1 S_l3_1 A_l3_1 = some (rS, rA) → Wa Ev X rm_X4_copies_0_1 5 h_l3_1 n 0 0 (rb_MQ Ev X rm_X4_copies_0_1 (pMv Ev o a h n none rS rA)) 3 [(0, .ref (a 0)), (1, .int x1), (2, .ref (a 1)), (3, .int x3), (4, .int y4_l3_1)] [] := by
    intro k_l3_1
    induction k_l3_1 with
    | zero => intro y4_l3_1 S_l3_1 A_l3_1 h_l3_1 hM hF hf; cases hf
    | succ k_l3_1 ih_l3_1 =>
      intro y4_l3_1 S_l3_1 A_l3_1 h_l3_1 hM hF hf
      rw [f_X4_copies_0_1_l3_1] at hf
      refine rb_iload C dX4_copies_3 4 rfl ?_
      refine rb_bipush (v := 44) C dX4_copies_5 rfl ?_
      refine rb_icmp_ge (tgt := 28) C dX4_copies_7 (by decide) (fun c_2 => ?_) (fun c_2 => ?_)
      · have hf := (if_pos c_2).symm.trans hf
        cases hf
        exact rb_vret C rfl (Nat.zero_le _) (Nat.zero_le _) dX4_copies_28 ⟨rfl, rfl, hM, hF⟩
      · have hf := (if_neg c_2).symm.trans hf
        refine rb_aload_n C dX4_copies_10 rfl 2 rfl ?_
        refine rb_iload_n C dX4_copies_11 rfl 3 rfl ?_
        refine rb_iload C dX4_copies_12 4 rfl ?_
        refine rb_iadd C dX4_copies_14 ?_
        refine rb_aload_n C dX4_copies_15 rfl 0 rfl ?_
        refine rb_iload_n C dX4_copies_16 rfl 1 rfl ?_
        refine rb_iload C dX4_copies_17 4 rfl ?_
        refine rb_iadd C dX4_copies_19 ?_
        by_cases c_g : ((x1 + y4_l3_1) < 0 ∨ 44 ≤ (x1 + y4_l3_1).toNatClampNeg)
        · exact absurd ((if_pos c_g).symm.trans hf) (fun z => by cases z)
        have hf := (if_neg c_g).symm.trans hf
        refine rb_iald (f := (A_l3_1 0)) C (Or.inl (hM.2.1 0 rfl)) (rb_nN c_g) dX4_copies_20 ?_
        by_cases c_g : ((x3 + y4_l3_1) < 0 ∨ 352 ≤ (x3 + y4_l3_1).toNatClampNeg)
        · exact absurd ((if_pos c_g).symm.trans hf) (fun z => by cases z)
        have hf := (if_neg c_g).symm.trans hf
        refine rb_iast (f := (A_l3_1 1)) C (hM.2.1 1 rfl) (rb_nN c_g) dX4_copies_21 (fun h_3 e1 e2 => ?_)
        have hM : MD Ev h_3 o a S_l3_1 (va_up A_l3_1 1 (upd (A_l3_1 1) (x3 + y4_l3_1).toNatClampNeg ((A_l3_1 0) (x1 + y4_l3_1).toNatClampNeg))) := hM.ast 1 rfl e1 e2
        have hF := hF.ast 1 rfl e2
        refine rb_iinc (v := (y4_l3_1 + 1)) (lv' := [(4, .int (y4_l3_1 + 1)), (0, .ref (a 0)), (1, .int x1), (2, .ref (a 1)), (3, .int x3)]) C dX4_copies_22 (k := 4) rfl rfl (by decide) rfl ?_
        refine rb_goto (tgt := 3) C dX4_copies_25 (by decide) ?_
        refine rb_sub [1, 2, 3, 4, 0] rfl ?_
        exact ih_l3_1 (y4_l3_1 + 1) S_l3_1 (va_up A_l3_1 1 (upd (A_l3_1 1) (x3 + y4_l3_1).toNatClampNeg ((A_l3_1 0) (x1 + y4_l3_1).toNatClampNeg))) h_3 hM hF hf
  refine rb_sub [1, 2, 3, 4, 0] rfl ?_
  exact L_l3_1 4096 0 S A h hM hF hf
def f_X4_keeps_0_j62_4 (S_j62_4 : Nat → Int32) (A_j62_4 : Nat → Nat → Int32) : Option ((Nat → Int32) × (Nat → Nat → Int32)) := ((f_X4_copies_0_1 S_j62_4 A_j62_4 0 (44 * (S_j62_4 5))).bind fun (S_7, A_8) => (some ((upd S_7 5 ((S_7 5) + 1)), A_8)))
def f_X4_keeps_0_l24_12  : Nat → Int32 → (Nat → Int32) → (Nat → Nat → Int32) → Option ((Nat → Int32) × (Nat → Nat → Int32))
  | 0, _, _, _ => none
  | k_l24_12 + 1, y2_l24_12, S_l24_12, A_l24_12 => (if 308 ≤ y2_l24_12 then (f_X4_keeps_0_j62_4 (upd S_l24_12 5 ((S_l24_12 5) - 1)) A_l24_12) else if ((y2_l24_12 + 44) < 0 ∨ 352 ≤ (y2_l24_12 + 44).toNatClampNeg) then none else if (y2_l24_12 < 0 ∨ 352 ≤ y2_l24_12.toNatClampNeg) then none else ((f_X4_keeps_0_l24_12  k_l24_12) (y2_l24_12 + 1) S_l24_12 (va_up A_l24_12 1 (upd (A_l24_12 1) y2_l24_12.toNatClampNeg ((A_l24_12 1) (y2_l24_12 + 44).toNatClampNeg)))))
def f_X4_keeps_0 (S : Nat → Int32) (A : Nat → Nat → Int32) : Option ((Nat → Int32) × (Nat → Nat → Int32)) := (if (S 6) = 0 then (if (S 5) = 8 then (f_X4_keeps_0_l24_12  4096 0 (upd S 8 0) A) else (f_X4_keeps_0_j62_4 (upd S 8 0) A)) else (some ((upd S 8 0), A)))
abbrev rm_X4_keeps_0 : Room := { frames := 1, cells := 0, slots := 0, locals := 24 }
set_option maxHeartbeats 4000000 in
theorem ct_X4_keeps_0 (Ev : rb_E) (h : AH) (n : Nat) (o : Nat) (a : Nat → Nat) (S : Nat → Int32) (A : Nat → Nat → Int32)  (rS : Nat → Int32) (rA : Nat → Nat → Int32) (hM : MD Ev h o a S A) (hf : f_X4_keeps_0 S A = some (rS, rA)) : Ct Ev yX4_keeps (ws_ yX4_keeps cX4_keeps 3 none) rm_X4_keeps_0 [.ref o, .ref (a 0)] h n (pMv Ev o a h n none rS rA) := by
  refine Ct.of rfl (Nat.le_of_ble_eq_true rfl) fun X C hnm => ?_
  have C : Cx Ev X RX4 cX4_keeps 3 none [] := C
  show Wa Ev X rm_X4_keeps_0 3 h n 0 0 (rb_MQ Ev X rm_X4_keeps_0 (pMv Ev o a h n none rS rA)) 0 [(0, .ref o), (1, .ref (a 0))] []
  have hF : mdFr h h o a := mdFr.rf
  rw [f_X4_keeps_0] at hf
  refine rb_aload_n C dX4_keeps_0 rfl 0 rfl ?_
  refine rb_iconst (v := 0) C dX4_keeps_1 rfl ?_
  refine rb_put (v := .int 0) C fw_X4_73_X4 hM.1 rfl rfl (Nat.le_of_ble_eq_true rfl) dX4_keeps_2 (fun h_1 e1 e2 => ?_)
  have hM : MD Ev h_1 o a (upd S 8 0) A := hM.put e1 e2 rfl
  have hF := hF.put e2
  refine rb_aload_n C dX4_keeps_5 rfl 0 rfl ?_
  refine rb_get (v := .int (S 6)) C fl_X4_89_X4 (Or.inl hM.1) rfl dX4_keeps_6 ?_
  refine rb_if_eq (tgt := 13) C dX4_keeps_9 (by decide) (fun c_2 => ?_) (fun c_2 => ?_)
  · have hf := (if_pos c_2).symm.trans hf
    refine rb_aload_n C dX4_keeps_13 rfl 0 rfl ?_
    refine rb_get (v := .int (S 5)) C fl_X4_92_X4 (Or.inl hM.1) rfl dX4_keeps_14 ?_
    refine rb_bipush (v := 8) C dX4_keeps_17 rfl ?_
    have J_j62_4 : ∀  (S_j62_4 : Nat → Int32) (A_j62_4 : Nat → Nat → Int32) (h_j62_4 : AH), MD Ev h_j62_4 o a S_j62_4 A_j62_4 → mdFr h h_j62_4 o a → f_X4_keeps_0_j62_4 S_j62_4 A_j62_4 = some (rS, rA) → Wa Ev X rm_X4_keeps_0 3 h_j62_4 n 0 0 (rb_MQ Ev X rm_X4_keeps_0 (pMv Ev o a h n none rS rA)) 62 [(0, .ref o), (1, .ref (a 0))] [] := by
      intro  S_j62_4 A_j62_4 h_j62_4 hM hF hf
      rw [f_X4_keeps_0_j62_4] at hf
      refine rb_aload_n C dX4_keeps_62 rfl 1 rfl ?_
      refine rb_iconst (v := 0) C dX4_keeps_63 rfl ?_
      refine rb_aload_n C dX4_keeps_64 rfl 0 rfl ?_
      refine rb_get (v := .ref (a 1)) C fl_X4_13_X4 (Or.inl hM.1) rfl dX4_keeps_65 ?_
      refine rb_bipush (v := 44) C dX4_keeps_68 rfl ?_
      refine rb_aload_n C dX4_keeps_70 rfl 0 rfl ?_
      refine rb_get (v := .int (S_j62_4 5)) C fl_X4_92_X4 (Or.inl hM.1) rfl dX4_keeps_71 ?_
      refine rb_imul C dX4_keeps_74 ?_
      obtain ⟨⟨S_7, A_8⟩, e_6, hf⟩ := rb_bd hf
      refine rb_zSMv C mi_X4_copies ss_X4_95 (ct_X4_copies_0_1 Ev h_j62_4 n o a S_j62_4 A_j62_4 0 (44 * (S_j62_4 5)) _ _ hM e_6) (rest := []) rfl rfl (Nat.le_of_ble_eq_true rfl) ⟨Nat.le_of_ble_eq_true rfl, Nat.le_of_ble_eq_true rfl⟩ ⟨Nat.zero_le _, Nat.zero_le _⟩ dX4_keeps_75 (fun h_9 hM hF1 => ?_)
      have hF := hF.tr hF1
      refine rb_aload_n C dX4_keeps_78 rfl 0 rfl ?_
      refine rb_dup C dX4_keeps_79 rfl ?_
      refine rb_get (v := .int (S_7 5)) C fl_X4_92_X4 (Or.inl hM.1) rfl dX4_keeps_80 ?_
      refine rb_iconst (v := 1) C dX4_keeps_83 rfl ?_
      refine rb_iadd C dX4_keeps_84 ?_
      refine rb_put (v := .int ((S_7 5) + 1)) C fw_X4_92_X4 hM.1 rfl rfl (Nat.le_of_ble_eq_true rfl) dX4_keeps_85 (fun h_11 e1 e2 => ?_)
      have hM : MD Ev h_11 o a (upd S_7 5 ((S_7 5) + 1)) A_8 := hM.put e1 e2 rfl
      have hF := hF.put e2
      cases hf
      exact rb_vret C rfl (Nat.zero_le _) (Nat.zero_le _) dX4_keeps_88 ⟨rfl, rfl, hM, hF⟩
    refine rb_icmp_ne (tgt := 62) C dX4_keeps_19 (by decide) (fun c_3 => ?_) (fun c_3 => ?_)
    · have hf := (if_neg c_3).symm.trans hf
      exact J_j62_4 (upd S 8 0) A h_1 hM hF hf
    · have hf := (if_pos c_3).symm.trans hf
      refine rb_iconst (v := 0) C dX4_keeps_22 rfl ?_
      refine rb_istore_n (lv' := [(2, .int 0), (0, .ref o), (1, .ref (a 0))]) C dX4_keeps_23 rfl (by decide) rfl ?_
      have L_l24_12 : ∀ (k_l24_12 : Nat) (y2_l24_12 : Int32) (S_l24_12 : Nat → Int32) (A_l24_12 : Nat → Nat → Int32) (h_l24_12 : AH), MD Ev h_l24_12 o a S_l24_12 A_l24_12 → mdFr h h_l24_12 o a → f_X4_keeps_0_l24_12  k_l24_12 y2_l24_12 S_l24_12 A_l24_12 = some (rS, rA) → Wa Ev X rm_X4_keeps_0 3 h_l24_12 n 0 0 (rb_MQ Ev X rm_X4_keeps_0 (pMv Ev o a h n none rS rA)) 24 [(0, .ref o), (1, .ref (a 0)), (2, .int y2_l24_12)] [] := by
        intro k_l24_12
        induction k_l24_12 with
        | zero => intro y2_l24_12 S_l24_12 A_l24_12 h_l24_12 hM hF hf; cases hf
        | succ k_l24_12 ih_l24_12 =>
          intro y2_l24_12 S_l24_12 A_l24_12 h_l24_12 hM hF hf
          rw [f_X4_keeps_0_l24_12] at hf
          refine rb_iload_n C dX4_keeps_24 rfl 2 rfl ?_
          refine rb_sipush (v := 308) C dX4_keeps_25 rfl ?_
          refine rb_icmp_ge (tgt := 52) C dX4_keeps_28 (by decide) (fun c_13 => ?_) (fun c_13 => ?_)
          · have hf := (if_pos c_13).symm.trans hf
            refine rb_aload_n C dX4_keeps_52 rfl 0 rfl ?_
            refine rb_dup C dX4_keeps_53 rfl ?_
            refine rb_get (v := .int (S_l24_12 5)) C fl_X4_92_X4 (Or.inl hM.1) rfl dX4_keeps_54 ?_
            refine rb_iconst (v := 1) C dX4_keeps_57 rfl ?_
            refine rb_isub C dX4_keeps_58 ?_
            refine rb_put (v := .int ((S_l24_12 5) - 1)) C fw_X4_92_X4 hM.1 rfl rfl (Nat.le_of_ble_eq_true rfl) dX4_keeps_59 (fun h_14 e1 e2 => ?_)
            have hM : MD Ev h_14 o a (upd S_l24_12 5 ((S_l24_12 5) - 1)) A_l24_12 := hM.put e1 e2 rfl
            have hF := hF.put e2
            refine rb_sub [0, 1] rfl ?_
            exact J_j62_4 (upd S_l24_12 5 ((S_l24_12 5) - 1)) A_l24_12 h_14 hM hF hf
          · have hf := (if_neg c_13).symm.trans hf
            refine rb_aload_n C dX4_keeps_31 rfl 0 rfl ?_
            refine rb_get (v := .ref (a 1)) C fl_X4_13_X4 (Or.inl hM.1) rfl dX4_keeps_32 ?_
            refine rb_iload_n C dX4_keeps_35 rfl 2 rfl ?_
            refine rb_aload_n C dX4_keeps_36 rfl 0 rfl ?_
            refine rb_get (v := .ref (a 1)) C fl_X4_13_X4 (Or.inl hM.1) rfl dX4_keeps_37 ?_
            refine rb_iload_n C dX4_keeps_40 rfl 2 rfl ?_
            refine rb_bipush (v := 44) C dX4_keeps_41 rfl ?_
            refine rb_iadd C dX4_keeps_43 ?_
            by_cases c_g : ((y2_l24_12 + 44) < 0 ∨ 352 ≤ (y2_l24_12 + 44).toNatClampNeg)
            · exact absurd ((if_pos c_g).symm.trans hf) (fun z => by cases z)
            have hf := (if_neg c_g).symm.trans hf
            refine rb_iald (f := (A_l24_12 1)) C (Or.inl (hM.2.1 1 rfl)) (rb_nN c_g) dX4_keeps_44 ?_
            by_cases c_g : (y2_l24_12 < 0 ∨ 352 ≤ y2_l24_12.toNatClampNeg)
            · exact absurd ((if_pos c_g).symm.trans hf) (fun z => by cases z)
            have hf := (if_neg c_g).symm.trans hf
            refine rb_iast (f := (A_l24_12 1)) C (hM.2.1 1 rfl) (rb_nN c_g) dX4_keeps_45 (fun h_15 e1 e2 => ?_)
            have hM : MD Ev h_15 o a S_l24_12 (va_up A_l24_12 1 (upd (A_l24_12 1) y2_l24_12.toNatClampNeg ((A_l24_12 1) (y2_l24_12 + 44).toNatClampNeg))) := hM.ast 1 rfl e1 e2
            have hF := hF.ast 1 rfl e2
            refine rb_iinc (v := (y2_l24_12 + 1)) (lv' := [(2, .int (y2_l24_12 + 1)), (0, .ref o), (1, .ref (a 0))]) C dX4_keeps_46 (k := 2) rfl rfl (by decide) rfl ?_
            refine rb_goto (tgt := 24) C dX4_keeps_49 (by decide) ?_
            refine rb_sub [1, 2, 0] rfl ?_
            exact ih_l24_12 (y2_l24_12 + 1) S_l24_12 (va_up A_l24_12 1 (upd (A_l24_12 1) y2_l24_12.toNatClampNeg ((A_l24_12 1) (y2_l24_12 + 44).toNatClampNeg))) h_15 hM hF hf
      refine rb_sub [1, 2, 0] rfl ?_
      exact L_l24_12 4096 0 (upd S 8 0) A h_1 hM hF hf
  · have hf := (if_neg c_2).symm.trans hf
    cases hf
    exact rb_vret C rfl (Nat.zero_le _) (Nat.zero_le _) dX4_keeps_12 ⟨rfl, rfl, hM, hF⟩
def f_X4_draft (S : Nat → Int32) (A : Nat → Nat → Int32) (x1 : Int32) : Option Int32 := if ((1 + x1) < 0 ∨ 44 ≤ (1 + x1).toNatClampNeg) then none else (some ((A 0) (1 + x1).toNatClampNeg))
abbrev rm_X4_draft : Room := { frames := 0, cells := 0, slots := 0, locals := 0 }
set_option maxHeartbeats 4000000 in
theorem ct_X4_draft (Ev : rb_E) (h : AH) (n : Nat) (o : Nat) (a : Nat → Nat) (S : Nat → Int32) (A : Nat → Nat → Int32) (x1 : Int32) (rv : Int32) (hM : MD Ev h o a S A) (hf : f_X4_draft S A x1 = some rv) : Ct Ev yX4_draft (ws_ yX4_draft cX4_draft 2 (some .int)) rm_X4_draft [.ref o, .int x1] h n (pR .int rv h n) := by
  refine Ct.of rfl (Nat.le_of_ble_eq_true rfl) fun X C hnm => ?_
  have C : Cx Ev X RX4 cX4_draft 2 (some .int) [] := C
  show Wa Ev X rm_X4_draft 2 h n 0 0 (rb_MQ Ev X rm_X4_draft (pR .int rv h n)) 0 [(0, .ref o), (1, .int x1)] []
  have hF : mdFr h h o a := mdFr.rf
  rw [f_X4_draft] at hf
  refine rb_aload_n C dX4_draft_0 rfl 0 rfl ?_
  refine rb_get (v := .ref (a 0)) C fl_X4_7_X4 (Or.inl hM.1) rfl dX4_draft_1 ?_
  refine rb_iconst (v := 1) C dX4_draft_4 rfl ?_
  refine rb_iload_n C dX4_draft_5 rfl 1 rfl ?_
  refine rb_iadd C dX4_draft_6 ?_
  by_cases c_g : ((1 + x1) < 0 ∨ 44 ≤ (1 + x1).toNatClampNeg)
  · exact absurd ((if_pos c_g).symm.trans hf) (fun z => by cases z)
  have hf := (if_neg c_g).symm.trans hf
  refine rb_iald (f := (A 0)) C (Or.inl (hM.2.1 0 rfl)) (rb_nN c_g) dX4_draft_7 ?_
  cases hf
  exact rb_iret C rfl rfl (Nat.zero_le _) (Nat.zero_le _) dX4_draft_8 ⟨rfl, rfl, rfl, rfl⟩
def f_X4_operandMany_j31_9 (y1_l4_1 : Int32) (y2_l4_1 : Int32) (rec_l4_1 : Int32 → Int32 → Option Int32) (w0_j31_9 : Int32) : Option Int32 := (rec_l4_1 (y1_l4_1 + w0_j31_9) (y2_l4_1 + 1))
def f_X4_operandMany_l4_1 (S : Nat → Int32) (A : Nat → Nat → Int32) : Nat → Int32 → Int32 → Option Int32
  | 0, _, _ => none
  | k_l4_1 + 1, y1_l4_1, y2_l4_1 => (if ((A 0) 0) ≤ y2_l4_1 then (some y1_l4_1) else ((f_X4_draft S A y2_l4_1).bind fun v_5 => (if (f_X4_isOperand v_5) = 0 then (f_X4_operandMany_j31_9 y1_l4_1 y2_l4_1 (f_X4_operandMany_l4_1 S A k_l4_1) 0) else (f_X4_operandMany_j31_9 y1_l4_1 y2_l4_1 (f_X4_operandMany_l4_1 S A k_l4_1) 1))))
def f_X4_operandMany (S : Nat → Int32) (A : Nat → Nat → Int32) : Option Int32 := (f_X4_operandMany_l4_1 S A 4096 0 0)
abbrev rm_X4_operandMany : Room := { frames := 3, cells := 0, slots := 0, locals := 62 }
set_option maxHeartbeats 4000000 in
theorem ct_X4_operandMany (Ev : rb_E) (h : AH) (n : Nat) (o : Nat) (a : Nat → Nat) (S : Nat → Int32) (A : Nat → Nat → Int32)  (rv : Int32) (hM : MD Ev h o a S A) (hf : f_X4_operandMany S A = some rv) : Ct Ev yX4_operandMany (ws_ yX4_operandMany cX4_operandMany 3 (some .int)) rm_X4_operandMany [.ref o] h n (pR .int rv h n) := by
  refine Ct.of rfl (Nat.le_of_ble_eq_true rfl) fun X C hnm => ?_
  have C : Cx Ev X RX4 cX4_operandMany 3 (some .int) [] := C
  show Wa Ev X rm_X4_operandMany 3 h n 0 0 (rb_MQ Ev X rm_X4_operandMany (pR .int rv h n)) 0 [(0, .ref o)] []
  have hF : mdFr h h o a := mdFr.rf
  rw [f_X4_operandMany] at hf
  refine rb_iconst (v := 0) C dX4_operandMany_0 rfl ?_
  refine rb_istore_n (lv' := [(1, .int 0), (0, .ref o)]) C dX4_operandMany_1 rfl (by decide) rfl ?_
  refine rb_iconst (v := 0) C dX4_operandMany_2 rfl ?_
  refine rb_istore_n (lv' := [(2, .int 0), (1, .int 0), (0, .ref o)]) C dX4_operandMany_3 rfl (by decide) rfl ?_
  have L_l4_1 : ∀ (k_l4_1 : Nat) (y1_l4_1 : Int32) (y2_l4_1 : Int32), f_X4_operandMany_l4_1 S A k_l4_1 y1_l4_1 y2_l4_1 = some rv → Wa Ev X rm_X4_operandMany 3 h n 0 0 (rb_MQ Ev X rm_X4_operandMany (pR .int rv h n)) 4 [(0, .ref o), (1, .int y1_l4_1), (2, .int y2_l4_1)] [] := by
    intro k_l4_1
    induction k_l4_1 with
    | zero => intro y1_l4_1 y2_l4_1 hf; cases hf
    | succ k_l4_1 ih_l4_1 =>
      intro y1_l4_1 y2_l4_1 hf
      rw [f_X4_operandMany_l4_1] at hf
      refine rb_iload_n C dX4_operandMany_4 rfl 2 rfl ?_
      refine rb_aload_n C dX4_operandMany_5 rfl 0 rfl ?_
      refine rb_get (v := .ref (a 0)) C fl_X4_7_X4 (Or.inl hM.1) rfl dX4_operandMany_6 ?_
      refine rb_iconst (v := 0) C dX4_operandMany_9 rfl ?_
      refine rb_iald (f := (A 0)) C (Or.inl (hM.2.1 0 rfl)) (rb_nN (by decide)) dX4_operandMany_10 ?_
      refine rb_top (.int ((A 0) 0)) rfl ?_
      refine rb_icmp_ge (tgt := 39) C dX4_operandMany_11 (by decide) (fun c_2 => ?_) (fun c_2 => ?_)
      · have hf := (if_pos c_2).symm.trans hf
        refine rb_iload_n C dX4_operandMany_39 rfl 1 rfl ?_
        cases hf
        exact rb_iret C rfl rfl (Nat.zero_le _) (Nat.zero_le _) dX4_operandMany_40 ⟨rfl, rfl, rfl, rfl⟩
      · have hf := (if_neg c_2).symm.trans hf
        refine rb_iload_n C dX4_operandMany_14 rfl 1 rfl ?_
        refine rb_aload_n C dX4_operandMany_15 rfl 0 rfl ?_
        refine rb_iload_n C dX4_operandMany_16 rfl 2 rfl ?_
        obtain ⟨v_5, e_4, hf⟩ := rb_bd hf
        refine rb_zVR C mi_X4_draft sv_X4_117 (IsC.of (Or.inl hM.1) ck_X4) (ct_X4_draft Ev h n o a S A y2_l4_1 _ hM e_4) (rest := [.int y1_l4_1]) rfl rfl (Nat.le_of_ble_eq_true rfl) ⟨Nat.le_of_ble_eq_true rfl, Nat.le_of_ble_eq_true rfl⟩ ⟨Nat.zero_le _, Nat.zero_le _⟩ dX4_operandMany_17 (fun hn_6 => ?_)
        refine rb_zSR C mi_X4_isOperand ss_X4_111 (ct_X4_isOperand Ev h n v_5 _ rfl) (rest := [.int y1_l4_1]) rfl rfl (Nat.le_of_ble_eq_true rfl) ⟨Nat.le_of_ble_eq_true rfl, Nat.le_of_ble_eq_true rfl⟩ ⟨Nat.zero_le _, Nat.zero_le _⟩ dX4_operandMany_20 (fun hn_7 => ?_)
        have J_j31_9 : ∀ (w0_j31_9 : Int32), f_X4_operandMany_j31_9 y1_l4_1 y2_l4_1 (f_X4_operandMany_l4_1 S A k_l4_1) w0_j31_9 = some rv → Wa Ev X rm_X4_operandMany 3 h n 0 0 (rb_MQ Ev X rm_X4_operandMany (pR .int rv h n)) 31 [(0, .ref o), (1, .int y1_l4_1), (2, .int y2_l4_1)] [.int w0_j31_9, .int y1_l4_1] := by
          intro w0_j31_9 hf
          rw [f_X4_operandMany_j31_9] at hf
          refine rb_iadd C dX4_operandMany_31 ?_
          refine rb_istore_n (lv' := [(1, .int (y1_l4_1 + w0_j31_9)), (0, .ref o), (2, .int y2_l4_1)]) C dX4_operandMany_32 rfl (by decide) rfl ?_
          refine rb_iinc (v := (y2_l4_1 + 1)) (lv' := [(2, .int (y2_l4_1 + 1)), (1, .int (y1_l4_1 + w0_j31_9)), (0, .ref o)]) C dX4_operandMany_33 (k := 2) rfl rfl (by decide) rfl ?_
          refine rb_goto (tgt := 4) C dX4_operandMany_36 (by decide) ?_
          refine rb_sub [2, 1, 0] rfl ?_
          exact ih_l4_1 (y1_l4_1 + w0_j31_9) (y2_l4_1 + 1) hf
        refine rb_if_eq (tgt := 30) C dX4_operandMany_23 (by decide) (fun c_8 => ?_) (fun c_8 => ?_)
        · have hf := (if_pos c_8).symm.trans hf
          refine rb_iconst (v := 0) C dX4_operandMany_30 rfl ?_
          exact J_j31_9 0 hf
        · have hf := (if_neg c_8).symm.trans hf
          refine rb_iconst (v := 1) C dX4_operandMany_26 rfl ?_
          refine rb_goto (tgt := 31) C dX4_operandMany_27 (by decide) ?_
          exact J_j31_9 1 hf
  refine rb_sub [2, 1, 0] rfl ?_
  exact L_l4_1 4096 0 0 hf
def f_X4_denies (S : Nat → Int32) (A : Nat → Nat → Int32) (x1 : Int32) (x2 : Int32) (x3 : Int32) : Option (Int32 × (Nat → Int32) × (Nat → Nat → Int32)) := (some (0, (upd (upd (upd (upd (upd S 8 x1) 7 1) 9 x2) 10 x3) 11 0), A))
abbrev rm_X4_denies : Room := { frames := 0, cells := 0, slots := 0, locals := 0 }
set_option maxHeartbeats 4000000 in
theorem ct_X4_denies (Ev : rb_E) (h : AH) (n : Nat) (o : Nat) (a : Nat → Nat) (S : Nat → Int32) (A : Nat → Nat → Int32) (x1 : Int32) (x2 : Int32) (x3 : Int32) (rv : Int32) (rS : Nat → Int32) (rA : Nat → Nat → Int32) (hM : MD Ev h o a S A) (hf : f_X4_denies S A x1 x2 x3 = some (rv, rS, rA)) : Ct Ev yX4_denies (ws_ yX4_denies cX4_denies 4 (some .int)) rm_X4_denies [.ref o, .int x1, .int x2, .int x3] h n (pM Ev .int o a h n rv rS rA) := by
  refine Ct.of rfl (Nat.le_of_ble_eq_true rfl) fun X C hnm => ?_
  have C : Cx Ev X RX4 cX4_denies 4 (some .int) [] := C
  show Wa Ev X rm_X4_denies 4 h n 0 0 (rb_MQ Ev X rm_X4_denies (pM Ev .int o a h n rv rS rA)) 0 [(0, .ref o), (1, .int x1), (2, .int x2), (3, .int x3)] []
  have hF : mdFr h h o a := mdFr.rf
  rw [f_X4_denies] at hf
  refine rb_aload_n C dX4_denies_0 rfl 0 rfl ?_
  refine rb_iload_n C dX4_denies_1 rfl 1 rfl ?_
  refine rb_put (v := .int x1) C fw_X4_73_X4 hM.1 rfl rfl (Nat.le_of_ble_eq_true rfl) dX4_denies_2 (fun h_1 e1 e2 => ?_)
  have hM : MD Ev h_1 o a (upd S 8 x1) A := hM.put e1 e2 rfl
  have hF := hF.put e2
  refine rb_aload_n C dX4_denies_5 rfl 0 rfl ?_
  refine rb_iconst (v := 1) C dX4_denies_6 rfl ?_
  refine rb_put (v := .int 1) C fw_X4_76_X4 hM.1 rfl rfl (Nat.le_of_ble_eq_true rfl) dX4_denies_7 (fun h_2 e1 e2 => ?_)
  have hM : MD Ev h_2 o a (upd (upd S 8 x1) 7 1) A := hM.put e1 e2 rfl
  have hF := hF.put e2
  refine rb_aload_n C dX4_denies_10 rfl 0 rfl ?_
  refine rb_iload_n C dX4_denies_11 rfl 2 rfl ?_
  refine rb_put (v := .int x2) C fw_X4_80_X4 hM.1 rfl rfl (Nat.le_of_ble_eq_true rfl) dX4_denies_12 (fun h_3 e1 e2 => ?_)
  have hM : MD Ev h_3 o a (upd (upd (upd S 8 x1) 7 1) 9 x2) A := hM.put e1 e2 rfl
  have hF := hF.put e2
  refine rb_aload_n C dX4_denies_15 rfl 0 rfl ?_
  refine rb_iload_n C dX4_denies_16 rfl 3 rfl ?_
  refine rb_put (v := .int x3) C fw_X4_83_X4 hM.1 rfl rfl (Nat.le_of_ble_eq_true rfl) dX4_denies_17 (fun h_4 e1 e2 => ?_)
  have hM : MD Ev h_4 o a (upd (upd (upd (upd S 8 x1) 7 1) 9 x2) 10 x3) A := hM.put e1 e2 rfl
  have hF := hF.put e2
  refine rb_aload_n C dX4_denies_20 rfl 0 rfl ?_
  refine rb_iconst (v := 0) C dX4_denies_21 rfl ?_
  refine rb_put (v := .int 0) C fw_X4_86_X4 hM.1 rfl rfl (Nat.le_of_ble_eq_true rfl) dX4_denies_22 (fun h_5 e1 e2 => ?_)
  have hM : MD Ev h_5 o a (upd (upd (upd (upd (upd S 8 x1) 7 1) 9 x2) 10 x3) 11 0) A := hM.put e1 e2 rfl
  have hF := hF.put e2
  refine rb_iconst (v := 0) C dX4_denies_25 rfl ?_
  cases hf
  exact rb_iret C rfl rfl (Nat.zero_le _) (Nat.zero_le _) dX4_denies_26 ⟨rfl, rfl, hM, hF, rfl⟩
def f_X4_put_j13_3 (x1 : Int32) (S : Nat → Int32) (A : Nat → Nat → Int32) (w0_j13_3 : Int32) : Option (Int32 × (Nat → Int32) × (Nat → Nat → Int32)) := ((f_X4_fails S A w0_j13_3).bind fun (v_9, S_6, A_7) => (if v_9 = 0 then (if ((A_7 0) 0) = 24 then ((f_X4_denies S_6 A_7 2 1 24).bind fun (v_48, S_45, A_46) => (some (v_48, S_45, A_46))) else (if (f_X4_isOperand x1) = 0 then ((f_X4_keeps_0 S_6 A_7 ).bind fun (S_17, A_18) => if ((1 + ((A_18 0) 0)) < 0 ∨ 44 ≤ (1 + ((A_18 0) 0)).toNatClampNeg) then none else (some (((upd (upd (A_18 0) (1 + ((A_18 0) 0)).toNatClampNeg x1) 0 (((upd (A_18 0) (1 + ((A_18 0) 0)).toNatClampNeg x1) 0) + 1)) 0), S_17, (va_up (va_up A_18 0 (upd (A_18 0) (1 + ((A_18 0) 0)).toNatClampNeg x1)) 0 (upd (upd (A_18 0) (1 + ((A_18 0) 0)).toNatClampNeg x1) 0 (((upd (A_18 0) (1 + ((A_18 0) 0)).toNatClampNeg x1) 0) + 1)))))) else ((f_X4_operandMany S_6 A_7 ).bind fun v_25 => (if v_25 = 8 then ((f_X4_denies S_6 A_7 2 1 8).bind fun (v_41, S_38, A_39) => (some (v_41, S_38, A_39))) else ((f_X4_keeps_0 S_6 A_7 ).bind fun (S_30, A_31) => if ((1 + ((A_31 0) 0)) < 0 ∨ 44 ≤ (1 + ((A_31 0) 0)).toNatClampNeg) then none else (some (((upd (upd (A_31 0) (1 + ((A_31 0) 0)).toNatClampNeg x1) 0 (((upd (A_31 0) (1 + ((A_31 0) 0)).toNatClampNeg x1) 0) + 1)) 0), S_30, (va_up (va_up A_31 0 (upd (A_31 0) (1 + ((A_31 0) 0)).toNatClampNeg x1)) 0 (upd (upd (A_31 0) (1 + ((A_31 0) 0)).toNatClampNeg x1) 0 (((upd (A_31 0) (1 + ((A_31 0) 0)).toNatClampNeg x1) 0) + 1)))))))))) else (some (0, S_6, A_7))))
def f_X4_put (S : Nat → Int32) (A : Nat → Nat → Int32) (x1 : Int32) : Option (Int32 × (Nat → Int32) × (Nat → Nat → Int32)) := (if (f_X4_isCharacter x1) = 0 then (f_X4_put_j13_3 x1 S A 1) else (f_X4_put_j13_3 x1 S A 0))
abbrev rm_X4_put : Room := { frames := 4, cells := 0, slots := 0, locals := 84 }
set_option maxHeartbeats 4000000 in
theorem ct_X4_put (Ev : rb_E) (h : AH) (n : Nat) (o : Nat) (a : Nat → Nat) (S : Nat → Int32) (A : Nat → Nat → Int32) (x1 : Int32) (rv : Int32) (rS : Nat → Int32) (rA : Nat → Nat → Int32) (hM : MD Ev h o a S A) (hf : f_X4_put S A x1 = some (rv, rS, rA)) : Ct Ev yX4_put (ws_ yX4_put cX4_put 2 (some .int)) rm_X4_put [.ref o, .int x1] h n (pM Ev .int o a h n rv rS rA) := by
  refine Ct.of rfl (Nat.le_of_ble_eq_true rfl) fun X C hnm => ?_
  have C : Cx Ev X RX4 cX4_put 2 (some .int) [] := C
  show Wa Ev X rm_X4_put 2 h n 0 0 (rb_MQ Ev X rm_X4_put (pM Ev .int o a h n rv rS rA)) 0 [(0, .ref o), (1, .int x1)] []
  have hF : mdFr h h o a := mdFr.rf
  rw [f_X4_put] at hf
  refine rb_aload_n C dX4_put_0 rfl 0 rfl ?_
  refine rb_iload_n C dX4_put_1 rfl 1 rfl ?_
  refine rb_zSR C mi_X4_isCharacter ss_X4_120 (ct_X4_isCharacter Ev h n x1 _ rfl) (rest := [.ref o]) rfl rfl (Nat.le_of_ble_eq_true rfl) ⟨Nat.le_of_ble_eq_true rfl, Nat.le_of_ble_eq_true rfl⟩ ⟨Nat.zero_le _, Nat.zero_le _⟩ dX4_put_2 (fun hn_1 => ?_)
  have J_j13_3 : ∀ (w0_j13_3 : Int32), f_X4_put_j13_3 x1 S A w0_j13_3 = some (rv, rS, rA) → Wa Ev X rm_X4_put 2 h n 0 0 (rb_MQ Ev X rm_X4_put (pM Ev .int o a h n rv rS rA)) 13 [(0, .ref o), (1, .int x1)] [.int w0_j13_3, .ref o] := by
    intro w0_j13_3 hf
    rw [f_X4_put_j13_3] at hf
    obtain ⟨⟨v_9, S_6, A_7⟩, e_5, hf⟩ := rb_bd hf
    refine rb_zVM C mi_X4_fails sv_X4_123 (IsC.of (Or.inl hM.1) ck_X4) (ct_X4_fails Ev h n o a S A w0_j13_3 _ _ _ hM e_5) (rest := []) rfl rfl (Nat.le_of_ble_eq_true rfl) ⟨Nat.le_of_ble_eq_true rfl, Nat.le_of_ble_eq_true rfl⟩ ⟨Nat.zero_le _, Nat.zero_le _⟩ dX4_put_13 (fun h_8 hM hF1 hn_10 => ?_)
    have hF := hF.tr hF1
    refine rb_if_eq (tgt := 21) C dX4_put_16 (by decide) (fun c_11 => ?_) (fun c_11 => ?_)
    · have hf := (if_pos c_11).symm.trans hf
      refine rb_aload_n C dX4_put_21 rfl 0 rfl ?_
      refine rb_get (v := .ref (a 0)) C fl_X4_7_X4 (Or.inl hM.1) rfl dX4_put_22 ?_
      refine rb_iconst (v := 0) C dX4_put_25 rfl ?_
      refine rb_iald (f := (A_7 0)) C (Or.inl (hM.2.1 0 rfl)) (rb_nN (by decide)) dX4_put_26 ?_
      refine rb_top (.int ((A_7 0) 0)) rfl ?_
      refine rb_bipush (v := 24) C dX4_put_27 rfl ?_
      refine rb_icmp_ne (tgt := 41) C dX4_put_29 (by decide) (fun c_12 => ?_) (fun c_12 => ?_)
      · have hf := (if_neg c_12).symm.trans hf
        refine rb_iload_n C dX4_put_41 rfl 1 rfl ?_
        refine rb_zSR C mi_X4_isOperand ss_X4_111 (ct_X4_isOperand Ev h_8 n x1 _ rfl) (rest := []) rfl rfl (Nat.le_of_ble_eq_true rfl) ⟨Nat.le_of_ble_eq_true rfl, Nat.le_of_ble_eq_true rfl⟩ ⟨Nat.zero_le _, Nat.zero_le _⟩ dX4_put_42 (fun hn_13 => ?_)
        refine rb_if_eq (tgt := 66) C dX4_put_45 (by decide) (fun c_14 => ?_) (fun c_14 => ?_)
        · have hf := (if_pos c_14).symm.trans hf
          refine rb_aload_n C dX4_put_66 rfl 0 rfl ?_
          refine rb_aload_n C dX4_put_67 rfl 0 rfl ?_
          refine rb_get (v := .ref (a 0)) C fl_X4_7_X4 (Or.inl hM.1) rfl dX4_put_68 ?_
          obtain ⟨⟨S_17, A_18⟩, e_16, hf⟩ := rb_bd hf
          refine rb_zVMv C mi_X4_keeps sv_X4_134 (IsC.of (Or.inl hM.1) ck_X4) (ct_X4_keeps_0 Ev h_8 n o a S_6 A_7  _ _ hM e_16) (rest := []) rfl rfl (Nat.le_of_ble_eq_true rfl) ⟨Nat.le_of_ble_eq_true rfl, Nat.le_of_ble_eq_true rfl⟩ ⟨Nat.zero_le _, Nat.zero_le _⟩ dX4_put_71 (fun h_19 hM hF1 => ?_)
          have hF := hF.tr hF1
          refine rb_aload_n C dX4_put_74 rfl 0 rfl ?_
          refine rb_get (v := .ref (a 0)) C fl_X4_7_X4 (Or.inl hM.1) rfl dX4_put_75 ?_
          refine rb_iconst (v := 1) C dX4_put_78 rfl ?_
          refine rb_aload_n C dX4_put_79 rfl 0 rfl ?_
          refine rb_get (v := .ref (a 0)) C fl_X4_7_X4 (Or.inl hM.1) rfl dX4_put_80 ?_
          refine rb_iconst (v := 0) C dX4_put_83 rfl ?_
          refine rb_iald (f := (A_18 0)) C (Or.inl (hM.2.1 0 rfl)) (rb_nN (by decide)) dX4_put_84 ?_
          refine rb_top (.int ((A_18 0) 0)) rfl ?_
          refine rb_iadd C dX4_put_85 ?_
          refine rb_iload_n C dX4_put_86 rfl 1 rfl ?_
          by_cases c_g : ((1 + ((A_18 0) 0)) < 0 ∨ 44 ≤ (1 + ((A_18 0) 0)).toNatClampNeg)
          · exact absurd ((if_pos c_g).symm.trans hf) (fun z => by cases z)
          have hf := (if_neg c_g).symm.trans hf
          refine rb_iast (f := (A_18 0)) C (hM.2.1 0 rfl) (rb_nN c_g) dX4_put_87 (fun h_21 e1 e2 => ?_)
          have hM : MD Ev h_21 o a S_17 (va_up A_18 0 (upd (A_18 0) (1 + ((A_18 0) 0)).toNatClampNeg x1)) := hM.ast 0 rfl e1 e2
          have hF := hF.ast 0 rfl e2
          refine rb_aload_n C dX4_put_88 rfl 0 rfl ?_
          refine rb_get (v := .ref (a 0)) C fl_X4_7_X4 (Or.inl hM.1) rfl dX4_put_89 ?_
          refine rb_iconst (v := 0) C dX4_put_92 rfl ?_
          refine rb_dup2_11 C dX4_put_93 rfl rfl ?_
          refine rb_iald (f := (upd (A_18 0) (1 + ((A_18 0) 0)).toNatClampNeg x1)) C (Or.inl (hM.2.1 0 rfl)) (rb_nN (by decide)) dX4_put_94 ?_
          refine rb_top (.int ((upd (A_18 0) (1 + ((A_18 0) 0)).toNatClampNeg x1) 0)) rfl ?_
          refine rb_iconst (v := 1) C dX4_put_95 rfl ?_
          refine rb_iadd C dX4_put_96 ?_
          refine rb_iast (f := (upd (A_18 0) (1 + ((A_18 0) 0)).toNatClampNeg x1)) C (hM.2.1 0 rfl) (rb_nN (by decide)) dX4_put_97 (fun h_22 e1 e2 => ?_)
          have hM : MD Ev h_22 o a S_17 (va_up (va_up A_18 0 (upd (A_18 0) (1 + ((A_18 0) 0)).toNatClampNeg x1)) 0 (upd (upd (A_18 0) (1 + ((A_18 0) 0)).toNatClampNeg x1) 0 (((upd (A_18 0) (1 + ((A_18 0) 0)).toNatClampNeg x1) 0) + 1))) := hM.ast 0 rfl e1 e2
          have hF := hF.ast 0 rfl e2
          refine rb_aload_n C dX4_put_98 rfl 0 rfl ?_
          refine rb_get (v := .ref (a 0)) C fl_X4_7_X4 (Or.inl hM.1) rfl dX4_put_99 ?_
          refine rb_iconst (v := 0) C dX4_put_102 rfl ?_
          refine rb_iald (f := (upd (upd (A_18 0) (1 + ((A_18 0) 0)).toNatClampNeg x1) 0 (((upd (A_18 0) (1 + ((A_18 0) 0)).toNatClampNeg x1) 0) + 1))) C (Or.inl (hM.2.1 0 rfl)) (rb_nN (by decide)) dX4_put_103 ?_
          refine rb_top (.int ((upd (upd (A_18 0) (1 + ((A_18 0) 0)).toNatClampNeg x1) 0 (((upd (A_18 0) (1 + ((A_18 0) 0)).toNatClampNeg x1) 0) + 1)) 0)) rfl ?_
          cases hf
          exact rb_iret C rfl rfl (Nat.zero_le _) (Nat.zero_le _) dX4_put_104 ⟨rfl, rfl, hM, hF, rfl⟩
        · have hf := (if_neg c_14).symm.trans hf
          refine rb_aload_n C dX4_put_48 rfl 0 rfl ?_
          obtain ⟨v_25, e_24, hf⟩ := rb_bd hf
          refine rb_zVR C mi_X4_operandMany sv_X4_130 (IsC.of (Or.inl hM.1) ck_X4) (ct_X4_operandMany Ev h_8 n o a S_6 A_7  _ hM e_24) (rest := []) rfl rfl (Nat.le_of_ble_eq_true rfl) ⟨Nat.le_of_ble_eq_true rfl, Nat.le_of_ble_eq_true rfl⟩ ⟨Nat.zero_le _, Nat.zero_le _⟩ dX4_put_49 (fun hn_26 => ?_)
          refine rb_bipush (v := 8) C dX4_put_52 rfl ?_
          refine rb_icmp_ne (tgt := 66) C dX4_put_54 (by decide) (fun c_27 => ?_) (fun c_27 => ?_)
          · have hf := (if_neg c_27).symm.trans hf
            refine rb_aload_n C dX4_put_66 rfl 0 rfl ?_
            refine rb_aload_n C dX4_put_67 rfl 0 rfl ?_
            refine rb_get (v := .ref (a 0)) C fl_X4_7_X4 (Or.inl hM.1) rfl dX4_put_68 ?_
            obtain ⟨⟨S_30, A_31⟩, e_29, hf⟩ := rb_bd hf
            refine rb_zVMv C mi_X4_keeps sv_X4_134 (IsC.of (Or.inl hM.1) ck_X4) (ct_X4_keeps_0 Ev h_8 n o a S_6 A_7  _ _ hM e_29) (rest := []) rfl rfl (Nat.le_of_ble_eq_true rfl) ⟨Nat.le_of_ble_eq_true rfl, Nat.le_of_ble_eq_true rfl⟩ ⟨Nat.zero_le _, Nat.zero_le _⟩ dX4_put_71 (fun h_32 hM hF1 => ?_)
            have hF := hF.tr hF1
            refine rb_aload_n C dX4_put_74 rfl 0 rfl ?_
            refine rb_get (v := .ref (a 0)) C fl_X4_7_X4 (Or.inl hM.1) rfl dX4_put_75 ?_
            refine rb_iconst (v := 1) C dX4_put_78 rfl ?_
            refine rb_aload_n C dX4_put_79 rfl 0 rfl ?_
            refine rb_get (v := .ref (a 0)) C fl_X4_7_X4 (Or.inl hM.1) rfl dX4_put_80 ?_
            refine rb_iconst (v := 0) C dX4_put_83 rfl ?_
            refine rb_iald (f := (A_31 0)) C (Or.inl (hM.2.1 0 rfl)) (rb_nN (by decide)) dX4_put_84 ?_
            refine rb_top (.int ((A_31 0) 0)) rfl ?_
            refine rb_iadd C dX4_put_85 ?_
            refine rb_iload_n C dX4_put_86 rfl 1 rfl ?_
            by_cases c_g : ((1 + ((A_31 0) 0)) < 0 ∨ 44 ≤ (1 + ((A_31 0) 0)).toNatClampNeg)
            · exact absurd ((if_pos c_g).symm.trans hf) (fun z => by cases z)
            have hf := (if_neg c_g).symm.trans hf
            refine rb_iast (f := (A_31 0)) C (hM.2.1 0 rfl) (rb_nN c_g) dX4_put_87 (fun h_34 e1 e2 => ?_)
            have hM : MD Ev h_34 o a S_30 (va_up A_31 0 (upd (A_31 0) (1 + ((A_31 0) 0)).toNatClampNeg x1)) := hM.ast 0 rfl e1 e2
            have hF := hF.ast 0 rfl e2
            refine rb_aload_n C dX4_put_88 rfl 0 rfl ?_
            refine rb_get (v := .ref (a 0)) C fl_X4_7_X4 (Or.inl hM.1) rfl dX4_put_89 ?_
            refine rb_iconst (v := 0) C dX4_put_92 rfl ?_
            refine rb_dup2_11 C dX4_put_93 rfl rfl ?_
            refine rb_iald (f := (upd (A_31 0) (1 + ((A_31 0) 0)).toNatClampNeg x1)) C (Or.inl (hM.2.1 0 rfl)) (rb_nN (by decide)) dX4_put_94 ?_
            refine rb_top (.int ((upd (A_31 0) (1 + ((A_31 0) 0)).toNatClampNeg x1) 0)) rfl ?_
            refine rb_iconst (v := 1) C dX4_put_95 rfl ?_
            refine rb_iadd C dX4_put_96 ?_
            refine rb_iast (f := (upd (A_31 0) (1 + ((A_31 0) 0)).toNatClampNeg x1)) C (hM.2.1 0 rfl) (rb_nN (by decide)) dX4_put_97 (fun h_35 e1 e2 => ?_)
            have hM : MD Ev h_35 o a S_30 (va_up (va_up A_31 0 (upd (A_31 0) (1 + ((A_31 0) 0)).toNatClampNeg x1)) 0 (upd (upd (A_31 0) (1 + ((A_31 0) 0)).toNatClampNeg x1) 0 (((upd (A_31 0) (1 + ((A_31 0) 0)).toNatClampNeg x1) 0) + 1))) := hM.ast 0 rfl e1 e2
            have hF := hF.ast 0 rfl e2
            refine rb_aload_n C dX4_put_98 rfl 0 rfl ?_
            refine rb_get (v := .ref (a 0)) C fl_X4_7_X4 (Or.inl hM.1) rfl dX4_put_99 ?_
            refine rb_iconst (v := 0) C dX4_put_102 rfl ?_
            refine rb_iald (f := (upd (upd (A_31 0) (1 + ((A_31 0) 0)).toNatClampNeg x1) 0 (((upd (A_31 0) (1 + ((A_31 0) 0)).toNatClampNeg x1) 0) + 1))) C (Or.inl (hM.2.1 0 rfl)) (rb_nN (by decide)) dX4_put_103 ?_
            refine rb_top (.int ((upd (upd (A_31 0) (1 + ((A_31 0) 0)).toNatClampNeg x1) 0 (((upd (A_31 0) (1 + ((A_31 0) 0)).toNatClampNeg x1) 0) + 1)) 0)) rfl ?_
            cases hf
            exact rb_iret C rfl rfl (Nat.zero_le _) (Nat.zero_le _) dX4_put_104 ⟨rfl, rfl, hM, hF, rfl⟩
          · have hf := (if_pos c_27).symm.trans hf
            refine rb_aload_n C dX4_put_57 rfl 0 rfl ?_
            refine rb_iconst (v := 2) C dX4_put_58 rfl ?_
            refine rb_iconst (v := 1) C dX4_put_59 rfl ?_
            refine rb_bipush (v := 8) C dX4_put_60 rfl ?_
            obtain ⟨⟨v_41, S_38, A_39⟩, e_37, hf⟩ := rb_bd hf
            refine rb_zVM C mi_X4_denies sv_X4_126 (IsC.of (Or.inl hM.1) ck_X4) (ct_X4_denies Ev h_8 n o a S_6 A_7 2 1 8 _ _ _ hM e_37) (rest := []) rfl rfl (Nat.le_of_ble_eq_true rfl) ⟨Nat.le_of_ble_eq_true rfl, Nat.le_of_ble_eq_true rfl⟩ ⟨Nat.zero_le _, Nat.zero_le _⟩ dX4_put_62 (fun h_40 hM hF1 hn_42 => ?_)
            have hF := hF.tr hF1
            cases hf
            exact rb_iret C rfl rfl (Nat.zero_le _) (Nat.zero_le _) dX4_put_65 ⟨rfl, rfl, hM, hF, rfl⟩
      · have hf := (if_pos c_12).symm.trans hf
        refine rb_aload_n C dX4_put_32 rfl 0 rfl ?_
        refine rb_iconst (v := 2) C dX4_put_33 rfl ?_
        refine rb_iconst (v := 1) C dX4_put_34 rfl ?_
        refine rb_bipush (v := 24) C dX4_put_35 rfl ?_
        obtain ⟨⟨v_48, S_45, A_46⟩, e_44, hf⟩ := rb_bd hf
        refine rb_zVM C mi_X4_denies sv_X4_126 (IsC.of (Or.inl hM.1) ck_X4) (ct_X4_denies Ev h_8 n o a S_6 A_7 2 1 24 _ _ _ hM e_44) (rest := []) rfl rfl (Nat.le_of_ble_eq_true rfl) ⟨Nat.le_of_ble_eq_true rfl, Nat.le_of_ble_eq_true rfl⟩ ⟨Nat.zero_le _, Nat.zero_le _⟩ dX4_put_37 (fun h_47 hM hF1 hn_49 => ?_)
        have hF := hF.tr hF1
        cases hf
        exact rb_iret C rfl rfl (Nat.zero_le _) (Nat.zero_le _) dX4_put_40 ⟨rfl, rfl, hM, hF, rfl⟩
    · have hf := (if_neg c_11).symm.trans hf
      refine rb_iconst (v := 0) C dX4_put_19 rfl ?_
      cases hf
      exact rb_iret C rfl rfl (Nat.zero_le _) (Nat.zero_le _) dX4_put_20 ⟨rfl, rfl, hM, hF, rfl⟩
  refine rb_if_eq (tgt := 12) C dX4_put_5 (by decide) (fun c_2 => ?_) (fun c_2 => ?_)
  · have hf := (if_pos c_2).symm.trans hf
    refine rb_iconst (v := 1) C dX4_put_12 rfl ?_
    exact J_j13_3 1 hf
  · have hf := (if_neg c_2).symm.trans hf
    refine rb_iconst (v := 0) C dX4_put_8 rfl ?_
    refine rb_goto (tgt := 13) C dX4_put_9 (by decide) ?_
    exact J_j13_3 0 hf
def f_X4_erase_j37_25 (y1_l13_15 : Int32) (y2_l13_15 : Int32) (rec_l13_15 : Int32 → Int32 → Option (Int32 × (Nat → Int32) × (Nat → Nat → Int32))) (w0_j37_25 : Int32) : Option (Int32 × (Nat → Int32) × (Nat → Nat → Int32)) := (rec_l13_15 (y1_l13_15 + w0_j37_25) (y2_l13_15 + 1))
def f_X4_erase_l13_15 (S : Nat → Int32) (A : Nat → Nat → Int32) : Nat → Int32 → Int32 → Option (Int32 × (Nat → Int32) × (Nat → Nat → Int32))
  | 0, _, _ => none
  | k_l13_15 + 1, y1_l13_15, y2_l13_15 => (if 6 ≤ y2_l13_15 then ((f_X4_denies S A 1 3 y1_l13_15).bind fun (v_22, S_19, A_20) => (some (32, S_19, A_20))) else if ((25 + y2_l13_15) < 0 ∨ 44 ≤ (25 + y2_l13_15).toNatClampNeg) then none else (if ((A 0) (25 + y2_l13_15).toNatClampNeg) = 0 then (f_X4_erase_j37_25 y1_l13_15 y2_l13_15 (f_X4_erase_l13_15 S A k_l13_15) 1) else (f_X4_erase_j37_25 y1_l13_15 y2_l13_15 (f_X4_erase_l13_15 S A k_l13_15) 0)))
def f_X4_erase (S : Nat → Int32) (A : Nat → Nat → Int32) : Option (Int32 × (Nat → Int32) × (Nat → Nat → Int32)) := (if ((A 0) 0) = 0 then (f_X4_erase_l13_15 S A 4096 0 0) else ((f_X4_keeps_0 S A ).bind fun (S_4, A_5) => ((f_X4_draft S_4 (va_up A_5 0 (upd (A_5 0) 0 (((A_5 0) 0) - 1))) ((upd (A_5 0) 0 (((A_5 0) 0) - 1)) 0)).bind fun v_11 => if ((1 + ((upd (A_5 0) 0 (((A_5 0) 0) - 1)) 0)) < 0 ∨ 44 ≤ (1 + ((upd (A_5 0) 0 (((A_5 0) 0) - 1)) 0)).toNatClampNeg) then none else (some ((v_11.toUInt32 % 65536).toInt32, S_4, (va_up (va_up A_5 0 (upd (A_5 0) 0 (((A_5 0) 0) - 1))) 0 (upd (upd (A_5 0) 0 (((A_5 0) 0) - 1)) (1 + ((upd (A_5 0) 0 (((A_5 0) 0) - 1)) 0)).toNatClampNeg 0)))))))
abbrev rm_X4_erase : Room := { frames := 2, cells := 0, slots := 0, locals := 46 }
set_option maxHeartbeats 4000000 in
theorem ct_X4_erase (Ev : rb_E) (h : AH) (n : Nat) (o : Nat) (a : Nat → Nat) (S : Nat → Int32) (A : Nat → Nat → Int32)  (rv : Int32) (rS : Nat → Int32) (rA : Nat → Nat → Int32) (hM : MD Ev h o a S A) (hf : f_X4_erase S A = some (rv, rS, rA)) : Ct Ev yX4_erase (ws_ yX4_erase cX4_erase 3 (some .char)) rm_X4_erase [.ref o] h n (pM Ev .char o a h n rv rS rA) := by
  refine Ct.of rfl (Nat.le_of_ble_eq_true rfl) fun X C hnm => ?_
  have C : Cx Ev X RX4 cX4_erase 3 (some .char) [] := C
  show Wa Ev X rm_X4_erase 3 h n 0 0 (rb_MQ Ev X rm_X4_erase (pM Ev .char o a h n rv rS rA)) 0 [(0, .ref o)] []
  have hF : mdFr h h o a := mdFr.rf
  rw [f_X4_erase] at hf
  refine rb_aload_n C dX4_erase_0 rfl 0 rfl ?_
  refine rb_get (v := .ref (a 0)) C fl_X4_7_X4 (Or.inl hM.1) rfl dX4_erase_1 ?_
  refine rb_iconst (v := 0) C dX4_erase_4 rfl ?_
  refine rb_iald (f := (A 0)) C (Or.inl (hM.2.1 0 rfl)) (rb_nN (by decide)) dX4_erase_5 ?_
  refine rb_top (.int ((A 0) 0)) rfl ?_
  refine rb_if_ne (tgt := 56) C dX4_erase_6 (by decide) (fun c_1 => ?_) (fun c_1 => ?_)
  · have hf := (if_neg c_1).symm.trans hf
    refine rb_aload_n C dX4_erase_56 rfl 0 rfl ?_
    refine rb_aload_n C dX4_erase_57 rfl 0 rfl ?_
    refine rb_get (v := .ref (a 0)) C fl_X4_7_X4 (Or.inl hM.1) rfl dX4_erase_58 ?_
    obtain ⟨⟨S_4, A_5⟩, e_3, hf⟩ := rb_bd hf
    refine rb_zVMv C mi_X4_keeps sv_X4_134 (IsC.of (Or.inl hM.1) ck_X4) (ct_X4_keeps_0 Ev h n o a S A  _ _ hM e_3) (rest := []) rfl rfl (Nat.le_of_ble_eq_true rfl) ⟨Nat.le_of_ble_eq_true rfl, Nat.le_of_ble_eq_true rfl⟩ ⟨Nat.zero_le _, Nat.zero_le _⟩ dX4_erase_61 (fun h_6 hM hF1 => ?_)
    have hF := hF.tr hF1
    refine rb_aload_n C dX4_erase_64 rfl 0 rfl ?_
    refine rb_get (v := .ref (a 0)) C fl_X4_7_X4 (Or.inl hM.1) rfl dX4_erase_65 ?_
    refine rb_iconst (v := 0) C dX4_erase_68 rfl ?_
    refine rb_dup2_11 C dX4_erase_69 rfl rfl ?_
    refine rb_iald (f := (A_5 0)) C (Or.inl (hM.2.1 0 rfl)) (rb_nN (by decide)) dX4_erase_70 ?_
    refine rb_top (.int ((A_5 0) 0)) rfl ?_
    refine rb_iconst (v := 1) C dX4_erase_71 rfl ?_
    refine rb_isub C dX4_erase_72 ?_
    refine rb_iast (f := (A_5 0)) C (hM.2.1 0 rfl) (rb_nN (by decide)) dX4_erase_73 (fun h_8 e1 e2 => ?_)
    have hM : MD Ev h_8 o a S_4 (va_up A_5 0 (upd (A_5 0) 0 (((A_5 0) 0) - 1))) := hM.ast 0 rfl e1 e2
    have hF := hF.ast 0 rfl e2
    refine rb_aload_n C dX4_erase_74 rfl 0 rfl ?_
    refine rb_aload_n C dX4_erase_75 rfl 0 rfl ?_
    refine rb_get (v := .ref (a 0)) C fl_X4_7_X4 (Or.inl hM.1) rfl dX4_erase_76 ?_
    refine rb_iconst (v := 0) C dX4_erase_79 rfl ?_
    refine rb_iald (f := (upd (A_5 0) 0 (((A_5 0) 0) - 1))) C (Or.inl (hM.2.1 0 rfl)) (rb_nN (by decide)) dX4_erase_80 ?_
    refine rb_top (.int ((upd (A_5 0) 0 (((A_5 0) 0) - 1)) 0)) rfl ?_
    obtain ⟨v_11, e_10, hf⟩ := rb_bd hf
    refine rb_zVR C mi_X4_draft sv_X4_117 (IsC.of (Or.inl hM.1) ck_X4) (ct_X4_draft Ev h_8 n o a S_4 (va_up A_5 0 (upd (A_5 0) 0 (((A_5 0) 0) - 1))) ((upd (A_5 0) 0 (((A_5 0) 0) - 1)) 0) _ hM e_10) (rest := []) rfl rfl (Nat.le_of_ble_eq_true rfl) ⟨Nat.le_of_ble_eq_true rfl, Nat.le_of_ble_eq_true rfl⟩ ⟨Nat.zero_le _, Nat.zero_le _⟩ dX4_erase_81 (fun hn_12 => ?_)
    refine rb_istore_n (lv' := [(1, .int v_11), (0, .ref o)]) C dX4_erase_84 rfl (by decide) rfl ?_
    refine rb_aload_n C dX4_erase_85 rfl 1 rfl ?_
    refine rb_get (v := .ref (a 0)) C fl_X4_7_X4 (Or.inl hM.1) rfl dX4_erase_86 ?_
    refine rb_iconst (v := 1) C dX4_erase_89 rfl ?_
    refine rb_aload_n C dX4_erase_90 rfl 1 rfl ?_
    refine rb_get (v := .ref (a 0)) C fl_X4_7_X4 (Or.inl hM.1) rfl dX4_erase_91 ?_
    refine rb_iconst (v := 0) C dX4_erase_94 rfl ?_
    refine rb_iald (f := (upd (A_5 0) 0 (((A_5 0) 0) - 1))) C (Or.inl (hM.2.1 0 rfl)) (rb_nN (by decide)) dX4_erase_95 ?_
    refine rb_top (.int ((upd (A_5 0) 0 (((A_5 0) 0) - 1)) 0)) rfl ?_
    refine rb_iadd C dX4_erase_96 ?_
    refine rb_iconst (v := 0) C dX4_erase_97 rfl ?_
    by_cases c_g : ((1 + ((upd (A_5 0) 0 (((A_5 0) 0) - 1)) 0)) < 0 ∨ 44 ≤ (1 + ((upd (A_5 0) 0 (((A_5 0) 0) - 1)) 0)).toNatClampNeg)
    · exact absurd ((if_pos c_g).symm.trans hf) (fun z => by cases z)
    have hf := (if_neg c_g).symm.trans hf
    refine rb_iast (f := (upd (A_5 0) 0 (((A_5 0) 0) - 1))) C (hM.2.1 0 rfl) (rb_nN c_g) dX4_erase_98 (fun h_13 e1 e2 => ?_)
    have hM : MD Ev h_13 o a S_4 (va_up (va_up A_5 0 (upd (A_5 0) 0 (((A_5 0) 0) - 1))) 0 (upd (upd (A_5 0) 0 (((A_5 0) 0) - 1)) (1 + ((upd (A_5 0) 0 (((A_5 0) 0) - 1)) 0)).toNatClampNeg 0)) := hM.ast 0 rfl e1 e2
    have hF := hF.ast 0 rfl e2
    refine rb_iload_n C dX4_erase_99 rfl 0 rfl ?_
    refine rb_i2c C dX4_erase_100 rfl ?_
    have hc_14 : narrow .char (.int (v_11.toUInt32 % 65536).toInt32) = .int (v_11.toUInt32 % 65536).toInt32 := pk_nc v_11
    cases hf
    exact rb_iret C rfl hc_14 (Nat.zero_le _) (Nat.zero_le _) dX4_erase_101 ⟨rfl, rfl, hM, hF, hc_14⟩
  · have hf := (if_pos c_1).symm.trans hf
    refine rb_iconst (v := 0) C dX4_erase_9 rfl ?_
    refine rb_istore_n (lv' := [(1, .int 0), (0, .ref o)]) C dX4_erase_10 rfl (by decide) rfl ?_
    refine rb_iconst (v := 0) C dX4_erase_11 rfl ?_
    refine rb_istore_n (lv' := [(2, .int 0), (1, .int 0), (0, .ref o)]) C dX4_erase_12 rfl (by decide) rfl ?_
    have L_l13_15 : ∀ (k_l13_15 : Nat) (y1_l13_15 : Int32) (y2_l13_15 : Int32), f_X4_erase_l13_15 S A k_l13_15 y1_l13_15 y2_l13_15 = some (rv, rS, rA) → Wa Ev X rm_X4_erase 3 h n 0 0 (rb_MQ Ev X rm_X4_erase (pM Ev .char o a h n rv rS rA)) 13 [(0, .ref o), (1, .int y1_l13_15), (2, .int y2_l13_15)] [] := by
      intro k_l13_15
      induction k_l13_15 with
      | zero => intro y1_l13_15 y2_l13_15 hf; cases hf
      | succ k_l13_15 ih_l13_15 =>
        intro y1_l13_15 y2_l13_15 hf
        rw [f_X4_erase_l13_15] at hf
        refine rb_iload_n C dX4_erase_13 rfl 2 rfl ?_
        refine rb_bipush (v := 6) C dX4_erase_14 rfl ?_
        refine rb_icmp_ge (tgt := 45) C dX4_erase_16 (by decide) (fun c_16 => ?_) (fun c_16 => ?_)
        · have hf := (if_pos c_16).symm.trans hf
          refine rb_aload_n C dX4_erase_45 rfl 0 rfl ?_
          refine rb_iconst (v := 1) C dX4_erase_46 rfl ?_
          refine rb_iconst (v := 3) C dX4_erase_47 rfl ?_
          refine rb_iload_n C dX4_erase_48 rfl 1 rfl ?_
          obtain ⟨⟨v_22, S_19, A_20⟩, e_18, hf⟩ := rb_bd hf
          refine rb_zVM C mi_X4_denies sv_X4_126 (IsC.of (Or.inl hM.1) ck_X4) (ct_X4_denies Ev h n o a S A 1 3 y1_l13_15 _ _ _ hM e_18) (rest := []) rfl rfl (Nat.le_of_ble_eq_true rfl) ⟨Nat.le_of_ble_eq_true rfl, Nat.le_of_ble_eq_true rfl⟩ ⟨Nat.zero_le _, Nat.zero_le _⟩ dX4_erase_49 (fun h_21 hM hF1 hn_23 => ?_)
          have hF := hF.tr hF1
          refine rb_pop C dX4_erase_52 rfl ?_
          refine rb_bipush (v := 32) C dX4_erase_53 rfl ?_
          cases hf
          exact rb_iret C rfl rfl (Nat.zero_le _) (Nat.zero_le _) dX4_erase_55 ⟨rfl, rfl, hM, hF, rfl⟩
        · have hf := (if_neg c_16).symm.trans hf
          refine rb_iload_n C dX4_erase_19 rfl 1 rfl ?_
          refine rb_aload_n C dX4_erase_20 rfl 0 rfl ?_
          refine rb_get (v := .ref (a 0)) C fl_X4_7_X4 (Or.inl hM.1) rfl dX4_erase_21 ?_
          refine rb_bipush (v := 25) C dX4_erase_24 rfl ?_
          refine rb_iload_n C dX4_erase_26 rfl 2 rfl ?_
          refine rb_iadd C dX4_erase_27 ?_
          by_cases c_g : ((25 + y2_l13_15) < 0 ∨ 44 ≤ (25 + y2_l13_15).toNatClampNeg)
          · exact absurd ((if_pos c_g).symm.trans hf) (fun z => by cases z)
          have hf := (if_neg c_g).symm.trans hf
          refine rb_iald (f := (A 0)) C (Or.inl (hM.2.1 0 rfl)) (rb_nN c_g) dX4_erase_28 ?_
          have J_j37_25 : ∀ (w0_j37_25 : Int32), f_X4_erase_j37_25 y1_l13_15 y2_l13_15 (f_X4_erase_l13_15 S A k_l13_15) w0_j37_25 = some (rv, rS, rA) → Wa Ev X rm_X4_erase 3 h n 0 0 (rb_MQ Ev X rm_X4_erase (pM Ev .char o a h n rv rS rA)) 37 [(0, .ref o), (1, .int y1_l13_15), (2, .int y2_l13_15)] [.int w0_j37_25, .int y1_l13_15] := by
            intro w0_j37_25 hf
            rw [f_X4_erase_j37_25] at hf
            refine rb_iadd C dX4_erase_37 ?_
            refine rb_istore_n (lv' := [(1, .int (y1_l13_15 + w0_j37_25)), (0, .ref o), (2, .int y2_l13_15)]) C dX4_erase_38 rfl (by decide) rfl ?_
            refine rb_iinc (v := (y2_l13_15 + 1)) (lv' := [(2, .int (y2_l13_15 + 1)), (1, .int (y1_l13_15 + w0_j37_25)), (0, .ref o)]) C dX4_erase_39 (k := 2) rfl rfl (by decide) rfl ?_
            refine rb_goto (tgt := 13) C dX4_erase_42 (by decide) ?_
            refine rb_sub [2, 1, 0] rfl ?_
            exact ih_l13_15 (y1_l13_15 + w0_j37_25) (y2_l13_15 + 1) hf
          refine rb_if_ne (tgt := 36) C dX4_erase_29 (by decide) (fun c_24 => ?_) (fun c_24 => ?_)
          · have hf := (if_neg c_24).symm.trans hf
            refine rb_iconst (v := 0) C dX4_erase_36 rfl ?_
            exact J_j37_25 0 hf
          · have hf := (if_pos c_24).symm.trans hf
            refine rb_iconst (v := 1) C dX4_erase_32 rfl ?_
            refine rb_goto (tgt := 37) C dX4_erase_33 (by decide) ?_
            exact J_j37_25 1 hf
    refine rb_sub [2, 1, 0] rfl ?_
    exact L_l13_15 4096 0 0 hf
def f_X4_clear_l24_8 (A : Nat → Nat → Int32) : Nat → Int32 → (Nat → Int32) → (Nat → Nat → Int32) → Option (Int32 × (Nat → Int32) × (Nat → Nat → Int32))
  | 0, _, _, _ => none
  | k_l24_8 + 1, y2_l24_8, S_l24_8, A_l24_8 => (if 24 ≤ y2_l24_8 then (some (((A 0) 0), S_l24_8, A_l24_8)) else if ((1 + y2_l24_8) < 0 ∨ 44 ≤ (1 + y2_l24_8).toNatClampNeg) then none else ((f_X4_clear_l24_8 A k_l24_8) (y2_l24_8 + 1) S_l24_8 (va_up A_l24_8 0 (upd (A_l24_8 0) (1 + y2_l24_8).toNatClampNeg 0))))
def f_X4_clear (S : Nat → Int32) (A : Nat → Nat → Int32) : Option (Int32 × (Nat → Int32) × (Nat → Nat → Int32)) := ((f_X4_keeps_0 S A ).bind fun (S_3, A_4) => (f_X4_clear_l24_8 A 4096 0 S_3 (va_up A_4 0 (upd (A_4 0) 0 0))))
abbrev rm_X4_clear : Room := { frames := 2, cells := 0, slots := 0, locals := 46 }
set_option maxHeartbeats 4000000 in
theorem ct_X4_clear (Ev : rb_E) (h : AH) (n : Nat) (o : Nat) (a : Nat → Nat) (S : Nat → Int32) (A : Nat → Nat → Int32)  (rv : Int32) (rS : Nat → Int32) (rA : Nat → Nat → Int32) (hM : MD Ev h o a S A) (hf : f_X4_clear S A = some (rv, rS, rA)) : Ct Ev yX4_clear (ws_ yX4_clear cX4_clear 3 (some .int)) rm_X4_clear [.ref o] h n (pM Ev .int o a h n rv rS rA) := by
  refine Ct.of rfl (Nat.le_of_ble_eq_true rfl) fun X C hnm => ?_
  have C : Cx Ev X RX4 cX4_clear 3 (some .int) [] := C
  show Wa Ev X rm_X4_clear 3 h n 0 0 (rb_MQ Ev X rm_X4_clear (pM Ev .int o a h n rv rS rA)) 0 [(0, .ref o)] []
  have hF : mdFr h h o a := mdFr.rf
  rw [f_X4_clear] at hf
  refine rb_aload_n C dX4_clear_0 rfl 0 rfl ?_
  refine rb_get (v := .ref (a 0)) C fl_X4_7_X4 (Or.inl hM.1) rfl dX4_clear_1 ?_
  refine rb_iconst (v := 0) C dX4_clear_4 rfl ?_
  refine rb_iald (f := (A 0)) C (Or.inl (hM.2.1 0 rfl)) (rb_nN (by decide)) dX4_clear_5 ?_
  refine rb_top (.int ((A 0) 0)) rfl ?_
  refine rb_istore_n (lv' := [(1, .int ((A 0) 0)), (0, .ref o)]) C dX4_clear_6 rfl (by decide) rfl ?_
  refine rb_aload_n C dX4_clear_7 rfl 1 rfl ?_
  refine rb_aload_n C dX4_clear_8 rfl 1 rfl ?_
  refine rb_get (v := .ref (a 0)) C fl_X4_7_X4 (Or.inl hM.1) rfl dX4_clear_9 ?_
  obtain ⟨⟨S_3, A_4⟩, e_2, hf⟩ := rb_bd hf
  refine rb_zVMv C mi_X4_keeps sv_X4_134 (IsC.of (Or.inl hM.1) ck_X4) (ct_X4_keeps_0 Ev h n o a S A  _ _ hM e_2) (rest := []) rfl rfl (Nat.le_of_ble_eq_true rfl) ⟨Nat.le_of_ble_eq_true rfl, Nat.le_of_ble_eq_true rfl⟩ ⟨Nat.zero_le _, Nat.zero_le _⟩ dX4_clear_12 (fun h_5 hM hF1 => ?_)
  have hF := hF.tr hF1
  refine rb_aload_n C dX4_clear_15 rfl 1 rfl ?_
  refine rb_get (v := .ref (a 0)) C fl_X4_7_X4 (Or.inl hM.1) rfl dX4_clear_16 ?_
  refine rb_iconst (v := 0) C dX4_clear_19 rfl ?_
  refine rb_iconst (v := 0) C dX4_clear_20 rfl ?_
  refine rb_iast (f := (A_4 0)) C (hM.2.1 0 rfl) (rb_nN (by decide)) dX4_clear_21 (fun h_7 e1 e2 => ?_)
  have hM : MD Ev h_7 o a S_3 (va_up A_4 0 (upd (A_4 0) 0 0)) := hM.ast 0 rfl e1 e2
  have hF := hF.ast 0 rfl e2
  refine rb_iconst (v := 0) C dX4_clear_22 rfl ?_
  refine rb_istore_n (lv' := [(2, .int 0), (1, .int ((A 0) 0)), (0, .ref o)]) C dX4_clear_23 rfl (by decide) rfl ?_
  have L_l24_8 : ∀ (k_l24_8 : Nat) (y2_l24_8 : Int32) (S_l24_8 : Nat → Int32) (A_l24_8 : Nat → Nat → Int32) (h_l24_8 : AH), MD Ev h_l24_8 o a S_l24_8 A_l24_8 → mdFr h h_l24_8 o a → f_X4_clear_l24_8 A k_l24_8 y2_l24_8 S_l24_8 A_l24_8 = some (rv, rS, rA) → Wa Ev X rm_X4_clear 3 h_l24_8 n 0 0 (rb_MQ Ev X rm_X4_clear (pM Ev .int o a h n rv rS rA)) 24 [(0, .ref o), (1, .int ((A 0) 0)), (2, .int y2_l24_8)] [] := by
    intro k_l24_8
    induction k_l24_8 with
    | zero => intro y2_l24_8 S_l24_8 A_l24_8 h_l24_8 hM hF hf; cases hf
    | succ k_l24_8 ih_l24_8 =>
      intro y2_l24_8 S_l24_8 A_l24_8 h_l24_8 hM hF hf
      rw [f_X4_clear_l24_8] at hf
      refine rb_iload_n C dX4_clear_24 rfl 2 rfl ?_
      refine rb_bipush (v := 24) C dX4_clear_25 rfl ?_
      refine rb_icmp_ge (tgt := 45) C dX4_clear_27 (by decide) (fun c_9 => ?_) (fun c_9 => ?_)
      · have hf := (if_pos c_9).symm.trans hf
        refine rb_iload_n C dX4_clear_45 rfl 1 rfl ?_
        cases hf
        exact rb_iret C rfl rfl (Nat.zero_le _) (Nat.zero_le _) dX4_clear_46 ⟨rfl, rfl, hM, hF, rfl⟩
      · have hf := (if_neg c_9).symm.trans hf
        refine rb_aload_n C dX4_clear_30 rfl 0 rfl ?_
        refine rb_get (v := .ref (a 0)) C fl_X4_7_X4 (Or.inl hM.1) rfl dX4_clear_31 ?_
        refine rb_iconst (v := 1) C dX4_clear_34 rfl ?_
        refine rb_iload_n C dX4_clear_35 rfl 2 rfl ?_
        refine rb_iadd C dX4_clear_36 ?_
        refine rb_iconst (v := 0) C dX4_clear_37 rfl ?_
        by_cases c_g : ((1 + y2_l24_8) < 0 ∨ 44 ≤ (1 + y2_l24_8).toNatClampNeg)
        · exact absurd ((if_pos c_g).symm.trans hf) (fun z => by cases z)
        have hf := (if_neg c_g).symm.trans hf
        refine rb_iast (f := (A_l24_8 0)) C (hM.2.1 0 rfl) (rb_nN c_g) dX4_clear_38 (fun h_10 e1 e2 => ?_)
        have hM : MD Ev h_10 o a S_l24_8 (va_up A_l24_8 0 (upd (A_l24_8 0) (1 + y2_l24_8).toNatClampNeg 0)) := hM.ast 0 rfl e1 e2
        have hF := hF.ast 0 rfl e2
        refine rb_iinc (v := (y2_l24_8 + 1)) (lv' := [(2, .int (y2_l24_8 + 1)), (0, .ref o), (1, .int ((A 0) 0))]) C dX4_clear_39 (k := 2) rfl rfl (by decide) rfl ?_
        refine rb_goto (tgt := 24) C dX4_clear_42 (by decide) ?_
        refine rb_sub [1, 2, 0] rfl ?_
        exact ih_l24_8 (y2_l24_8 + 1) S_l24_8 (va_up A_l24_8 0 (upd (A_l24_8 0) (1 + y2_l24_8).toNatClampNeg 0)) h_10 hM hF hf
  refine rb_sub [2, 1, 0] rfl ?_
  exact L_l24_8 4096 0 S_3 (va_up A_4 0 (upd (A_4 0) 0 0)) h_7 hM hF hf
def f_X4_length (S : Nat → Int32) (A : Nat → Nat → Int32) : Option (Int32 × (Nat → Int32) × (Nat → Nat → Int32)) := (some (((A 0) 0), (upd S 8 0), A))
abbrev rm_X4_length : Room := { frames := 0, cells := 0, slots := 0, locals := 0 }
set_option maxHeartbeats 4000000 in
theorem ct_X4_length (Ev : rb_E) (h : AH) (n : Nat) (o : Nat) (a : Nat → Nat) (S : Nat → Int32) (A : Nat → Nat → Int32)  (rv : Int32) (rS : Nat → Int32) (rA : Nat → Nat → Int32) (hM : MD Ev h o a S A) (hf : f_X4_length S A = some (rv, rS, rA)) : Ct Ev yX4_length (ws_ yX4_length cX4_length 1 (some .int)) rm_X4_length [.ref o] h n (pM Ev .int o a h n rv rS rA) := by
  refine Ct.of rfl (Nat.le_of_ble_eq_true rfl) fun X C hnm => ?_
  have C : Cx Ev X RX4 cX4_length 1 (some .int) [] := C
  show Wa Ev X rm_X4_length 1 h n 0 0 (rb_MQ Ev X rm_X4_length (pM Ev .int o a h n rv rS rA)) 0 [(0, .ref o)] []
  have hF : mdFr h h o a := mdFr.rf
  rw [f_X4_length] at hf
  refine rb_aload_n C dX4_length_0 rfl 0 rfl ?_
  refine rb_iconst (v := 0) C dX4_length_1 rfl ?_
  refine rb_put (v := .int 0) C fw_X4_73_X4 hM.1 rfl rfl (Nat.le_of_ble_eq_true rfl) dX4_length_2 (fun h_1 e1 e2 => ?_)
  have hM : MD Ev h_1 o a (upd S 8 0) A := hM.put e1 e2 rfl
  have hF := hF.put e2
  refine rb_aload_n C dX4_length_5 rfl 0 rfl ?_
  refine rb_get (v := .ref (a 0)) C fl_X4_7_X4 (Or.inl hM.1) rfl dX4_length_6 ?_
  refine rb_iconst (v := 0) C dX4_length_9 rfl ?_
  refine rb_iald (f := (A 0)) C (Or.inl (hM.2.1 0 rfl)) (rb_nN (by decide)) dX4_length_10 ?_
  refine rb_top (.int ((A 0) 0)) rfl ?_
  cases hf
  exact rb_iret C rfl rfl (Nat.zero_le _) (Nat.zero_le _) dX4_length_11 ⟨rfl, rfl, hM, hF, rfl⟩
def f_X4_characterAt_j22_3 (x1 : Int32) (S : Nat → Int32) (A : Nat → Nat → Int32) (w0_j22_3 : Int32) : Option (Int32 × (Nat → Int32) × (Nat → Nat → Int32)) := ((f_X4_fails S A w0_j22_3).bind fun (v_9, S_6, A_7) => (if v_9 = 0 then ((f_X4_draft S_6 A_7 x1).bind fun v_14 => (some ((v_14.toUInt32 % 65536).toInt32, S_6, A_7))) else (some (32, S_6, A_7))))
def f_X4_characterAt (S : Nat → Int32) (A : Nat → Nat → Int32) (x1 : Int32) : Option (Int32 × (Nat → Int32) × (Nat → Nat → Int32)) := (if (f_X4_in x1 0 (((A 0) 0) - 1)) = 0 then (f_X4_characterAt_j22_3 x1 S A 1) else (f_X4_characterAt_j22_3 x1 S A 0))
abbrev rm_X4_characterAt : Room := { frames := 1, cells := 0, slots := 0, locals := 22 }
set_option maxHeartbeats 4000000 in
theorem ct_X4_characterAt (Ev : rb_E) (h : AH) (n : Nat) (o : Nat) (a : Nat → Nat) (S : Nat → Int32) (A : Nat → Nat → Int32) (x1 : Int32) (rv : Int32) (rS : Nat → Int32) (rA : Nat → Nat → Int32) (hM : MD Ev h o a S A) (hf : f_X4_characterAt S A x1 = some (rv, rS, rA)) : Ct Ev yX4_characterAt (ws_ yX4_characterAt cX4_characterAt 2 (some .char)) rm_X4_characterAt [.ref o, .int x1] h n (pM Ev .char o a h n rv rS rA) := by
  refine Ct.of rfl (Nat.le_of_ble_eq_true rfl) fun X C hnm => ?_
  have C : Cx Ev X RX4 cX4_characterAt 2 (some .char) [] := C
  show Wa Ev X rm_X4_characterAt 2 h n 0 0 (rb_MQ Ev X rm_X4_characterAt (pM Ev .char o a h n rv rS rA)) 0 [(0, .ref o), (1, .int x1)] []
  have hF : mdFr h h o a := mdFr.rf
  rw [f_X4_characterAt] at hf
  refine rb_aload_n C dX4_characterAt_0 rfl 0 rfl ?_
  refine rb_iload_n C dX4_characterAt_1 rfl 1 rfl ?_
  refine rb_iconst (v := 0) C dX4_characterAt_2 rfl ?_
  refine rb_aload_n C dX4_characterAt_3 rfl 0 rfl ?_
  refine rb_get (v := .ref (a 0)) C fl_X4_7_X4 (Or.inl hM.1) rfl dX4_characterAt_4 ?_
  refine rb_iconst (v := 0) C dX4_characterAt_7 rfl ?_
  refine rb_iald (f := (A 0)) C (Or.inl (hM.2.1 0 rfl)) (rb_nN (by decide)) dX4_characterAt_8 ?_
  refine rb_top (.int ((A 0) 0)) rfl ?_
  refine rb_iconst (v := 1) C dX4_characterAt_9 rfl ?_
  refine rb_isub C dX4_characterAt_10 ?_
  refine rb_zSR C mi_X4_in ss_X4_103 (ct_X4_in Ev h n x1 0 (((A 0) 0) - 1) _ rfl) (rest := [.ref o]) rfl rfl (Nat.le_of_ble_eq_true rfl) ⟨Nat.le_of_ble_eq_true rfl, Nat.le_of_ble_eq_true rfl⟩ ⟨Nat.zero_le _, Nat.zero_le _⟩ dX4_characterAt_11 (fun hn_1 => ?_)
  have J_j22_3 : ∀ (w0_j22_3 : Int32), f_X4_characterAt_j22_3 x1 S A w0_j22_3 = some (rv, rS, rA) → Wa Ev X rm_X4_characterAt 2 h n 0 0 (rb_MQ Ev X rm_X4_characterAt (pM Ev .char o a h n rv rS rA)) 22 [(0, .ref o), (1, .int x1)] [.int w0_j22_3, .ref o] := by
    intro w0_j22_3 hf
    rw [f_X4_characterAt_j22_3] at hf
    obtain ⟨⟨v_9, S_6, A_7⟩, e_5, hf⟩ := rb_bd hf
    refine rb_zVM C mi_X4_fails sv_X4_123 (IsC.of (Or.inl hM.1) ck_X4) (ct_X4_fails Ev h n o a S A w0_j22_3 _ _ _ hM e_5) (rest := []) rfl rfl (Nat.le_of_ble_eq_true rfl) ⟨Nat.le_of_ble_eq_true rfl, Nat.le_of_ble_eq_true rfl⟩ ⟨Nat.zero_le _, Nat.zero_le _⟩ dX4_characterAt_22 (fun h_8 hM hF1 hn_10 => ?_)
    have hF := hF.tr hF1
    refine rb_if_eq (tgt := 33) C dX4_characterAt_25 (by decide) (fun c_11 => ?_) (fun c_11 => ?_)
    · have hf := (if_pos c_11).symm.trans hf
      refine rb_aload_n C dX4_characterAt_33 rfl 0 rfl ?_
      refine rb_iload_n C dX4_characterAt_34 rfl 1 rfl ?_
      obtain ⟨v_14, e_13, hf⟩ := rb_bd hf
      refine rb_zVR C mi_X4_draft sv_X4_117 (IsC.of (Or.inl hM.1) ck_X4) (ct_X4_draft Ev h_8 n o a S_6 A_7 x1 _ hM e_13) (rest := []) rfl rfl (Nat.le_of_ble_eq_true rfl) ⟨Nat.le_of_ble_eq_true rfl, Nat.le_of_ble_eq_true rfl⟩ ⟨Nat.zero_le _, Nat.zero_le _⟩ dX4_characterAt_35 (fun hn_15 => ?_)
      refine rb_i2c C dX4_characterAt_38 rfl ?_
      have hc_16 : narrow .char (.int (v_14.toUInt32 % 65536).toInt32) = .int (v_14.toUInt32 % 65536).toInt32 := pk_nc v_14
      cases hf
      exact rb_iret C rfl hc_16 (Nat.zero_le _) (Nat.zero_le _) dX4_characterAt_39 ⟨rfl, rfl, hM, hF, hc_16⟩
    · have hf := (if_neg c_11).symm.trans hf
      refine rb_bipush (v := 32) C dX4_characterAt_28 rfl ?_
      refine rb_goto (tgt := 39) C dX4_characterAt_30 (by decide) ?_
      cases hf
      exact rb_iret C rfl rfl (Nat.zero_le _) (Nat.zero_le _) dX4_characterAt_39 ⟨rfl, rfl, hM, hF, rfl⟩
  refine rb_if_eq (tgt := 21) C dX4_characterAt_14 (by decide) (fun c_2 => ?_) (fun c_2 => ?_)
  · have hf := (if_pos c_2).symm.trans hf
    refine rb_iconst (v := 1) C dX4_characterAt_21 rfl ?_
    exact J_j22_3 1 hf
  · have hf := (if_neg c_2).symm.trans hf
    refine rb_iconst (v := 0) C dX4_characterAt_17 rfl ?_
    refine rb_goto (tgt := 22) C dX4_characterAt_18 (by decide) ?_
    exact J_j22_3 0 hf
def f_X4_operands (S : Nat → Int32) (A : Nat → Nat → Int32) : Option (Int32 × (Nat → Int32) × (Nat → Nat → Int32)) := ((f_X4_operandMany (upd S 8 0) A ).bind fun v_4 => (some (v_4, (upd S 8 0), A)))
abbrev rm_X4_operands : Room := { frames := 4, cells := 0, slots := 0, locals := 84 }
set_option maxHeartbeats 4000000 in
theorem ct_X4_operands (Ev : rb_E) (h : AH) (n : Nat) (o : Nat) (a : Nat → Nat) (S : Nat → Int32) (A : Nat → Nat → Int32)  (rv : Int32) (rS : Nat → Int32) (rA : Nat → Nat → Int32) (hM : MD Ev h o a S A) (hf : f_X4_operands S A = some (rv, rS, rA)) : Ct Ev yX4_operands (ws_ yX4_operands cX4_operands 1 (some .int)) rm_X4_operands [.ref o] h n (pM Ev .int o a h n rv rS rA) := by
  refine Ct.of rfl (Nat.le_of_ble_eq_true rfl) fun X C hnm => ?_
  have C : Cx Ev X RX4 cX4_operands 1 (some .int) [] := C
  show Wa Ev X rm_X4_operands 1 h n 0 0 (rb_MQ Ev X rm_X4_operands (pM Ev .int o a h n rv rS rA)) 0 [(0, .ref o)] []
  have hF : mdFr h h o a := mdFr.rf
  rw [f_X4_operands] at hf
  refine rb_aload_n C dX4_operands_0 rfl 0 rfl ?_
  refine rb_iconst (v := 0) C dX4_operands_1 rfl ?_
  refine rb_put (v := .int 0) C fw_X4_73_X4 hM.1 rfl rfl (Nat.le_of_ble_eq_true rfl) dX4_operands_2 (fun h_1 e1 e2 => ?_)
  have hM : MD Ev h_1 o a (upd S 8 0) A := hM.put e1 e2 rfl
  have hF := hF.put e2
  refine rb_aload_n C dX4_operands_5 rfl 0 rfl ?_
  obtain ⟨v_4, e_3, hf⟩ := rb_bd hf
  refine rb_zVR C mi_X4_operandMany sv_X4_130 (IsC.of (Or.inl hM.1) ck_X4) (ct_X4_operandMany Ev h_1 n o a (upd S 8 0) A  _ hM e_3) (rest := []) rfl rfl (Nat.le_of_ble_eq_true rfl) ⟨Nat.le_of_ble_eq_true rfl, Nat.le_of_ble_eq_true rfl⟩ ⟨Nat.zero_le _, Nat.zero_le _⟩ dX4_operands_6 (fun hn_5 => ?_)
  cases hf
  exact rb_iret C rfl rfl (Nat.zero_le _) (Nat.zero_le _) dX4_operands_9 ⟨rfl, rfl, hM, hF, rfl⟩
def f_X4_isOperator (x0 : Int32) : Int32 := (f_X4_in (f_X4_signOf x0) 0 5)
abbrev rm_X4_isOperator : Room := { frames := 1, cells := 0, slots := 0, locals := 22 }
set_option maxHeartbeats 4000000 in
theorem ct_X4_isOperator (Ev : rb_E) (h : AH) (n : Nat) (x0 : Int32) (rv : Int32) (hf : f_X4_isOperator x0 = rv) : Ct Ev yX4_isOperator (ws_ yX4_isOperator cX4_isOperator 1 (some .boolean)) rm_X4_isOperator [.int x0] h n (pR .boolean rv h n) := by
  refine Ct.of rfl (Nat.le_of_ble_eq_true rfl) fun X C hnm => ?_
  have C : Cx Ev X RX4 cX4_isOperator 1 (some .boolean) [] := C
  show Wa Ev X rm_X4_isOperator 1 h n 0 0 (rb_MQ Ev X rm_X4_isOperator (pR .boolean rv h n)) 0 [(0, .int x0)] []
  rw [f_X4_isOperator] at hf
  refine rb_iload_n C dX4_isOperator_0 rfl 0 rfl ?_
  refine rb_zSR C mi_X4_signOf ss_X4_99 (ct_X4_signOf Ev h n x0 _ rfl) (rest := []) rfl rfl (Nat.le_of_ble_eq_true rfl) ⟨Nat.le_of_ble_eq_true rfl, Nat.le_of_ble_eq_true rfl⟩ ⟨Nat.zero_le _, Nat.zero_le _⟩ dX4_isOperator_1 (fun hn_1 => ?_)
  refine rb_iconst (v := 0) C dX4_isOperator_4 rfl ?_
  refine rb_iconst (v := 5) C dX4_isOperator_5 rfl ?_
  refine rb_zSR C mi_X4_in ss_X4_103 (ct_X4_in Ev h n (f_X4_signOf x0) 0 5 _ rfl) (rest := []) rfl rfl (Nat.le_of_ble_eq_true rfl) ⟨Nat.le_of_ble_eq_true rfl, Nat.le_of_ble_eq_true rfl⟩ ⟨Nat.zero_le _, Nat.zero_le _⟩ dX4_isOperator_6 (fun hn_2 => ?_)
  subst hf
  exact rb_iret C rfl hn_2 (Nat.zero_le _) (Nat.zero_le _) dX4_isOperator_9 ⟨rfl, rfl, rfl, hn_2⟩
def f_X4_broken_j141_15 (y1_l6_1 : Int32) (y3_l6_1 : Int32) (rec_l6_1 : Int32 → Int32 → Int32 → Option Int32) (w0_j114_13 : Int32) (w0_j141_15 : Int32) : Option Int32 := (rec_l6_1 (y1_l6_1 + w0_j114_13) w0_j141_15 (y3_l6_1 + 1))
def f_X4_broken_j114_13 (y1_l6_1 : Int32) (y2_l6_1 : Int32) (y3_l6_1 : Int32) (rec_l6_1 : Int32 → Int32 → Int32 → Option Int32) (v_7 : Int32) (w0_j114_13 : Int32) : Option Int32 := (if y2_l6_1 = 0 then (f_X4_broken_j141_15 y1_l6_1 y3_l6_1 rec_l6_1 w0_j114_13 (f_X4_isOperator v_7)) else (if (f_X4_isOperand v_7) = 0 then (f_X4_broken_j141_15 y1_l6_1 y3_l6_1 rec_l6_1 w0_j114_13 1) else (f_X4_broken_j141_15 y1_l6_1 y3_l6_1 rec_l6_1 w0_j114_13 0)))
def f_X4_broken_j81_10 (y1_l6_1 : Int32) (y2_l6_1 : Int32) (y3_l6_1 : Int32) (rec_l6_1 : Int32 → Int32 → Int32 → Option Int32) (v_7 : Int32) (w0_j81_10 : Int32) : Option Int32 := (if w0_j81_10 = 0 then (some y3_l6_1) else (if v_7 = 40 then (f_X4_broken_j114_13 y1_l6_1 y2_l6_1 y3_l6_1 rec_l6_1 v_7 1) else (if v_7 = 41 then (f_X4_broken_j114_13 y1_l6_1 y2_l6_1 y3_l6_1 rec_l6_1 v_7 (-1)) else (f_X4_broken_j114_13 y1_l6_1 y2_l6_1 y3_l6_1 rec_l6_1 v_7 0))))
def f_X4_broken_l6_1 (S : Nat → Int32) (A : Nat → Nat → Int32) : Nat → Int32 → Int32 → Int32 → Option Int32
  | 0, _, _, _ => none
  | k_l6_1 + 1, y1_l6_1, y2_l6_1, y3_l6_1 => (if ((A 0) 0) ≤ y3_l6_1 then (if y2_l6_1 = 0 then (if y1_l6_1 ≤ 0 then (some (-1)) else (some ((A 0) 0))) else (some ((A 0) 0))) else ((f_X4_draft S A y3_l6_1).bind fun v_7 => (if y2_l6_1 = 0 then (if (f_X4_isOperator v_7) = 0 then (if v_7 = 41 then (if y1_l6_1 ≤ 0 then (f_X4_broken_j81_10 y1_l6_1 y2_l6_1 y3_l6_1 (f_X4_broken_l6_1 S A k_l6_1) v_7 0) else (f_X4_broken_j81_10 y1_l6_1 y2_l6_1 y3_l6_1 (f_X4_broken_l6_1 S A k_l6_1) v_7 1)) else (f_X4_broken_j81_10 y1_l6_1 y2_l6_1 y3_l6_1 (f_X4_broken_l6_1 S A k_l6_1) v_7 0)) else (f_X4_broken_j81_10 y1_l6_1 y2_l6_1 y3_l6_1 (f_X4_broken_l6_1 S A k_l6_1) v_7 1)) else (if (f_X4_isOperand v_7) = 0 then (if v_7 = 126 then (f_X4_broken_j81_10 y1_l6_1 y2_l6_1 y3_l6_1 (f_X4_broken_l6_1 S A k_l6_1) v_7 1) else (if v_7 = 40 then (f_X4_broken_j81_10 y1_l6_1 y2_l6_1 y3_l6_1 (f_X4_broken_l6_1 S A k_l6_1) v_7 1) else (f_X4_broken_j81_10 y1_l6_1 y2_l6_1 y3_l6_1 (f_X4_broken_l6_1 S A k_l6_1) v_7 0))) else (f_X4_broken_j81_10 y1_l6_1 y2_l6_1 y3_l6_1 (f_X4_broken_l6_1 S A k_l6_1) v_7 1)))))
def f_X4_broken (S : Nat → Int32) (A : Nat → Nat → Int32) : Option Int32 := (f_X4_broken_l6_1 S A 4096 0 1 0)
abbrev rm_X4_broken : Room := { frames := 3, cells := 0, slots := 0, locals := 62 }
set_option maxHeartbeats 4000000 in
theorem ct_X4_broken (Ev : rb_E) (h : AH) (n : Nat) (o : Nat) (a : Nat → Nat) (S : Nat → Int32) (A : Nat → Nat → Int32)  (rv : Int32) (hM : MD Ev h o a S A) (hf : f_X4_broken S A = some rv) : Ct Ev yX4_broken (ws_ yX4_broken cX4_broken 6 (some .int)) rm_X4_broken [.ref o] h n (pR .int rv h n) := by
  refine Ct.of rfl (Nat.le_of_ble_eq_true rfl) fun X C hnm => ?_
  have C : Cx Ev X RX4 cX4_broken 6 (some .int) [] := C
  show Wa Ev X rm_X4_broken 6 h n 0 0 (rb_MQ Ev X rm_X4_broken (pR .int rv h n)) 0 [(0, .ref o)] []
  have hF : mdFr h h o a := mdFr.rf
  rw [f_X4_broken] at hf
  refine rb_iconst (v := 0) C dX4_broken_0 rfl ?_
  refine rb_istore_n (lv' := [(1, .int 0), (0, .ref o)]) C dX4_broken_1 rfl (by decide) rfl ?_
  refine rb_iconst (v := 1) C dX4_broken_2 rfl ?_
  refine rb_istore_n (lv' := [(2, .int 1), (1, .int 0), (0, .ref o)]) C dX4_broken_3 rfl (by decide) rfl ?_
  refine rb_iconst (v := 0) C dX4_broken_4 rfl ?_
  refine rb_istore_n (lv' := [(3, .int 0), (2, .int 1), (1, .int 0), (0, .ref o)]) C dX4_broken_5 rfl (by decide) rfl ?_
  have L_l6_1 : ∀ (k_l6_1 : Nat) (y1_l6_1 : Int32) (y2_l6_1 : Int32) (y3_l6_1 : Int32), f_X4_broken_l6_1 S A k_l6_1 y1_l6_1 y2_l6_1 y3_l6_1 = some rv → Wa Ev X rm_X4_broken 6 h n 0 0 (rb_MQ Ev X rm_X4_broken (pR .int rv h n)) 6 [(0, .ref o), (1, .int y1_l6_1), (2, .int y2_l6_1), (3, .int y3_l6_1)] [] := by
    intro k_l6_1
    induction k_l6_1 with
    | zero => intro y1_l6_1 y2_l6_1 y3_l6_1 hf; cases hf
    | succ k_l6_1 ih_l6_1 =>
      intro y1_l6_1 y2_l6_1 y3_l6_1 hf
      rw [f_X4_broken_l6_1] at hf
      refine rb_iload_n C dX4_broken_6 rfl 3 rfl ?_
      refine rb_aload_n C dX4_broken_7 rfl 0 rfl ?_
      refine rb_get (v := .ref (a 0)) C fl_X4_7_X4 (Or.inl hM.1) rfl dX4_broken_8 ?_
      refine rb_iconst (v := 0) C dX4_broken_11 rfl ?_
      refine rb_iald (f := (A 0)) C (Or.inl (hM.2.1 0 rfl)) (rb_nN (by decide)) dX4_broken_12 ?_
      refine rb_top (.int ((A 0) 0)) rfl ?_
      refine rb_icmp_ge (tgt := 148) C dX4_broken_13 (by decide) (fun c_2 => ?_) (fun c_2 => ?_)
      · have hf := (if_pos c_2).symm.trans hf
        refine rb_iload_n C dX4_broken_148 rfl 2 rfl ?_
        refine rb_if_ne (tgt := 156) C dX4_broken_149 (by decide) (fun c_3 => ?_) (fun c_3 => ?_)
        · have hf := (if_neg c_3).symm.trans hf
          refine rb_aload_n C dX4_broken_156 rfl 0 rfl ?_
          refine rb_get (v := .ref (a 0)) C fl_X4_7_X4 (Or.inl hM.1) rfl dX4_broken_157 ?_
          refine rb_iconst (v := 0) C dX4_broken_160 rfl ?_
          refine rb_iald (f := (A 0)) C (Or.inl (hM.2.1 0 rfl)) (rb_nN (by decide)) dX4_broken_161 ?_
          refine rb_top (.int ((A 0) 0)) rfl ?_
          refine rb_goto (tgt := 166) C dX4_broken_162 (by decide) ?_
          cases hf
          exact rb_iret C rfl rfl (Nat.zero_le _) (Nat.zero_le _) dX4_broken_166 ⟨rfl, rfl, rfl, rfl⟩
        · have hf := (if_pos c_3).symm.trans hf
          refine rb_iload_n C dX4_broken_152 rfl 1 rfl ?_
          refine rb_if_le (tgt := 165) C dX4_broken_153 (by decide) (fun c_4 => ?_) (fun c_4 => ?_)
          · have hf := (if_pos c_4).symm.trans hf
            refine rb_iconst (v := (-1)) C dX4_broken_165 rfl ?_
            cases hf
            exact rb_iret C rfl rfl (Nat.zero_le _) (Nat.zero_le _) dX4_broken_166 ⟨rfl, rfl, rfl, rfl⟩
          · have hf := (if_neg c_4).symm.trans hf
            refine rb_aload_n C dX4_broken_156 rfl 0 rfl ?_
            refine rb_get (v := .ref (a 0)) C fl_X4_7_X4 (Or.inl hM.1) rfl dX4_broken_157 ?_
            refine rb_iconst (v := 0) C dX4_broken_160 rfl ?_
            refine rb_iald (f := (A 0)) C (Or.inl (hM.2.1 0 rfl)) (rb_nN (by decide)) dX4_broken_161 ?_
            refine rb_top (.int ((A 0) 0)) rfl ?_
            refine rb_goto (tgt := 166) C dX4_broken_162 (by decide) ?_
            cases hf
            exact rb_iret C rfl rfl (Nat.zero_le _) (Nat.zero_le _) dX4_broken_166 ⟨rfl, rfl, rfl, rfl⟩
      · have hf := (if_neg c_2).symm.trans hf
        refine rb_aload_n C dX4_broken_16 rfl 0 rfl ?_
        refine rb_iload_n C dX4_broken_17 rfl 3 rfl ?_
        obtain ⟨v_7, e_6, hf⟩ := rb_bd hf
        refine rb_zVR C mi_X4_draft sv_X4_117 (IsC.of (Or.inl hM.1) ck_X4) (ct_X4_draft Ev h n o a S A y3_l6_1 _ hM e_6) (rest := []) rfl rfl (Nat.le_of_ble_eq_true rfl) ⟨Nat.le_of_ble_eq_true rfl, Nat.le_of_ble_eq_true rfl⟩ ⟨Nat.zero_le _, Nat.zero_le _⟩ dX4_broken_18 (fun hn_8 => ?_)
        refine rb_istore (lv' := [(4, .int v_7), (0, .ref o), (1, .int y1_l6_1), (2, .int y2_l6_1), (3, .int y3_l6_1)]) C dX4_broken_21 (by decide) rfl ?_
        refine rb_iload_n C dX4_broken_23 rfl 3 rfl ?_
        have J_j81_10 : ∀ (w0_j81_10 : Int32), f_X4_broken_j81_10 y1_l6_1 y2_l6_1 y3_l6_1 (f_X4_broken_l6_1 S A k_l6_1) v_7 w0_j81_10 = some rv → Wa Ev X rm_X4_broken 6 h n 0 0 (rb_MQ Ev X rm_X4_broken (pR .int rv h n)) 81 [(0, .ref o), (1, .int y1_l6_1), (2, .int y2_l6_1), (3, .int y3_l6_1), (4, .int v_7)] [.int w0_j81_10] := by
          intro w0_j81_10 hf
          rw [f_X4_broken_j81_10] at hf
          refine rb_istore (lv' := [(5, .int w0_j81_10), (0, .ref o), (1, .int y1_l6_1), (2, .int y2_l6_1), (3, .int y3_l6_1), (4, .int v_7)]) C dX4_broken_81 (by decide) rfl ?_
          refine rb_iload C dX4_broken_83 0 rfl ?_
          refine rb_if_ne (tgt := 90) C dX4_broken_85 (by decide) (fun c_11 => ?_) (fun c_11 => ?_)
          · have hf := (if_neg c_11).symm.trans hf
            refine rb_iload_n C dX4_broken_90 rfl 2 rfl ?_
            refine rb_iload C dX4_broken_91 5 rfl ?_
            refine rb_bipush (v := 40) C dX4_broken_93 rfl ?_
            have J_j114_13 : ∀ (w0_j114_13 : Int32), f_X4_broken_j114_13 y1_l6_1 y2_l6_1 y3_l6_1 (f_X4_broken_l6_1 S A k_l6_1) v_7 w0_j114_13 = some rv → Wa Ev X rm_X4_broken 6 h n 0 0 (rb_MQ Ev X rm_X4_broken (pR .int rv h n)) 114 [(0, .ref o), (1, .int y1_l6_1), (2, .int y2_l6_1), (3, .int y3_l6_1), (4, .int v_7), (5, .int w0_j81_10)] [.int w0_j114_13, .int y1_l6_1] := by
              intro w0_j114_13 hf
              rw [f_X4_broken_j114_13] at hf
              refine rb_iadd C dX4_broken_114 ?_
              refine rb_istore_n (lv' := [(1, .int (y1_l6_1 + w0_j114_13)), (0, .ref o), (2, .int y2_l6_1), (3, .int y3_l6_1), (4, .int v_7), (5, .int w0_j81_10)]) C dX4_broken_115 rfl (by decide) rfl ?_
              refine rb_iload_n C dX4_broken_116 rfl 2 rfl ?_
              have J_j141_15 : ∀ (w0_j141_15 : Int32), f_X4_broken_j141_15 y1_l6_1 y3_l6_1 (f_X4_broken_l6_1 S A k_l6_1) w0_j114_13 w0_j141_15 = some rv → Wa Ev X rm_X4_broken 6 h n 0 0 (rb_MQ Ev X rm_X4_broken (pR .int rv h n)) 141 [(0, .ref o), (1, .int (y1_l6_1 + w0_j114_13)), (2, .int y2_l6_1), (3, .int y3_l6_1), (4, .int v_7), (5, .int w0_j81_10)] [.int w0_j141_15] := by
                intro w0_j141_15 hf
                rw [f_X4_broken_j141_15] at hf
                refine rb_istore_n (lv' := [(2, .int w0_j141_15), (0, .ref o), (1, .int (y1_l6_1 + w0_j114_13)), (3, .int y3_l6_1), (4, .int v_7), (5, .int w0_j81_10)]) C dX4_broken_141 rfl (by decide) rfl ?_
                refine rb_iinc (v := (y3_l6_1 + 1)) (lv' := [(3, .int (y3_l6_1 + 1)), (2, .int w0_j141_15), (0, .ref o), (1, .int (y1_l6_1 + w0_j114_13)), (4, .int v_7), (5, .int w0_j81_10)]) C dX4_broken_142 (k := 3) rfl rfl (by decide) rfl ?_
                refine rb_goto (tgt := 6) C dX4_broken_145 (by decide) ?_
                refine rb_sub [2, 3, 1, 0] rfl ?_
                exact ih_l6_1 (y1_l6_1 + w0_j114_13) w0_j141_15 (y3_l6_1 + 1) hf
              refine rb_if_eq (tgt := 136) C dX4_broken_117 (by decide) (fun c_14 => ?_) (fun c_14 => ?_)
              · have hf := (if_pos c_14).symm.trans hf
                refine rb_iload C dX4_broken_136 4 rfl ?_
                refine rb_zSR C mi_X4_isOperator ss_X4_138 (ct_X4_isOperator Ev h n v_7 _ rfl) (rest := []) rfl rfl (Nat.le_of_ble_eq_true rfl) ⟨Nat.le_of_ble_eq_true rfl, Nat.le_of_ble_eq_true rfl⟩ ⟨Nat.zero_le _, Nat.zero_le _⟩ dX4_broken_138 (fun hn_16 => ?_)
                refine rb_sub [1, 0, 2, 3, 4, 5] rfl ?_
                exact J_j141_15 (f_X4_isOperator v_7) hf
              · have hf := (if_neg c_14).symm.trans hf
                refine rb_iload C dX4_broken_120 4 rfl ?_
                refine rb_zSR C mi_X4_isOperand ss_X4_111 (ct_X4_isOperand Ev h n v_7 _ rfl) (rest := []) rfl rfl (Nat.le_of_ble_eq_true rfl) ⟨Nat.le_of_ble_eq_true rfl, Nat.le_of_ble_eq_true rfl⟩ ⟨Nat.zero_le _, Nat.zero_le _⟩ dX4_broken_122 (fun hn_17 => ?_)
                refine rb_if_ne (tgt := 132) C dX4_broken_125 (by decide) (fun c_18 => ?_) (fun c_18 => ?_)
                · have hf := (if_neg c_18).symm.trans hf
                  refine rb_iconst (v := 0) C dX4_broken_132 rfl ?_
                  refine rb_goto (tgt := 141) C dX4_broken_133 (by decide) ?_
                  refine rb_sub [1, 0, 2, 3, 4, 5] rfl ?_
                  exact J_j141_15 0 hf
                · have hf := (if_pos c_18).symm.trans hf
                  refine rb_iconst (v := 1) C dX4_broken_128 rfl ?_
                  refine rb_goto (tgt := 141) C dX4_broken_129 (by decide) ?_
                  refine rb_sub [1, 0, 2, 3, 4, 5] rfl ?_
                  exact J_j141_15 1 hf
            refine rb_icmp_ne (tgt := 102) C dX4_broken_95 (by decide) (fun c_12 => ?_) (fun c_12 => ?_)
            · have hf := (if_neg c_12).symm.trans hf
              refine rb_iload C dX4_broken_102 5 rfl ?_
              refine rb_bipush (v := 41) C dX4_broken_104 rfl ?_
              refine rb_icmp_ne (tgt := 113) C dX4_broken_106 (by decide) (fun c_19 => ?_) (fun c_19 => ?_)
              · have hf := (if_neg c_19).symm.trans hf
                refine rb_iconst (v := 0) C dX4_broken_113 rfl ?_
                refine rb_sub [1, 2, 3, 4, 5, 0] rfl ?_
                exact J_j114_13 0 hf
              · have hf := (if_pos c_19).symm.trans hf
                refine rb_iconst (v := (-1)) C dX4_broken_109 rfl ?_
                refine rb_goto (tgt := 114) C dX4_broken_110 (by decide) ?_
                refine rb_sub [1, 2, 3, 4, 5, 0] rfl ?_
                exact J_j114_13 (-1) hf
            · have hf := (if_pos c_12).symm.trans hf
              refine rb_iconst (v := 1) C dX4_broken_98 rfl ?_
              refine rb_goto (tgt := 114) C dX4_broken_99 (by decide) ?_
              refine rb_sub [1, 2, 3, 4, 5, 0] rfl ?_
              exact J_j114_13 1 hf
          · have hf := (if_pos c_11).symm.trans hf
            refine rb_iload_n C dX4_broken_88 rfl 4 rfl ?_
            cases hf
            exact rb_iret C rfl rfl (Nat.zero_le _) (Nat.zero_le _) dX4_broken_89 ⟨rfl, rfl, rfl, rfl⟩
        refine rb_if_eq (tgt := 57) C dX4_broken_24 (by decide) (fun c_9 => ?_) (fun c_9 => ?_)
        · have hf := (if_pos c_9).symm.trans hf
          refine rb_iload C dX4_broken_57 0 rfl ?_
          refine rb_zSR C mi_X4_isOperator ss_X4_138 (ct_X4_isOperator Ev h n v_7 _ rfl) (rest := []) rfl rfl (Nat.le_of_ble_eq_true rfl) ⟨Nat.le_of_ble_eq_true rfl, Nat.le_of_ble_eq_true rfl⟩ ⟨Nat.zero_le _, Nat.zero_le _⟩ dX4_broken_59 (fun hn_20 => ?_)
          refine rb_if_ne (tgt := 76) C dX4_broken_62 (by decide) (fun c_21 => ?_) (fun c_21 => ?_)
          · have hf := (if_neg c_21).symm.trans hf
            refine rb_iconst (v := 1) C dX4_broken_76 rfl ?_
            refine rb_goto (tgt := 81) C dX4_broken_77 (by decide) ?_
            refine rb_sub [1, 2, 3, 4, 0] rfl ?_
            exact J_j81_10 1 hf
          · have hf := (if_pos c_21).symm.trans hf
            refine rb_iload C dX4_broken_65 0 rfl ?_
            refine rb_bipush (v := 41) C dX4_broken_67 rfl ?_
            refine rb_icmp_ne (tgt := 80) C dX4_broken_69 (by decide) (fun c_22 => ?_) (fun c_22 => ?_)
            · have hf := (if_neg c_22).symm.trans hf
              refine rb_iconst (v := 0) C dX4_broken_80 rfl ?_
              refine rb_sub [1, 2, 3, 4, 0] rfl ?_
              exact J_j81_10 0 hf
            · have hf := (if_pos c_22).symm.trans hf
              refine rb_iload_n C dX4_broken_72 rfl 2 rfl ?_
              refine rb_if_le (tgt := 80) C dX4_broken_73 (by decide) (fun c_23 => ?_) (fun c_23 => ?_)
              · have hf := (if_pos c_23).symm.trans hf
                refine rb_iconst (v := 0) C dX4_broken_80 rfl ?_
                refine rb_sub [1, 2, 3, 4, 0] rfl ?_
                exact J_j81_10 0 hf
              · have hf := (if_neg c_23).symm.trans hf
                refine rb_iconst (v := 1) C dX4_broken_76 rfl ?_
                refine rb_goto (tgt := 81) C dX4_broken_77 (by decide) ?_
                refine rb_sub [1, 2, 3, 4, 0] rfl ?_
                exact J_j81_10 1 hf
        · have hf := (if_neg c_9).symm.trans hf
          refine rb_iload C dX4_broken_27 0 rfl ?_
          refine rb_zSR C mi_X4_isOperand ss_X4_111 (ct_X4_isOperand Ev h n v_7 _ rfl) (rest := []) rfl rfl (Nat.le_of_ble_eq_true rfl) ⟨Nat.le_of_ble_eq_true rfl, Nat.le_of_ble_eq_true rfl⟩ ⟨Nat.zero_le _, Nat.zero_le _⟩ dX4_broken_29 (fun hn_24 => ?_)
          refine rb_if_ne (tgt := 49) C dX4_broken_32 (by decide) (fun c_25 => ?_) (fun c_25 => ?_)
          · have hf := (if_neg c_25).symm.trans hf
            refine rb_iconst (v := 1) C dX4_broken_49 rfl ?_
            refine rb_goto (tgt := 81) C dX4_broken_50 (by decide) ?_
            refine rb_sub [1, 2, 3, 4, 0] rfl ?_
            exact J_j81_10 1 hf
          · have hf := (if_pos c_25).symm.trans hf
            refine rb_iload C dX4_broken_35 0 rfl ?_
            refine rb_bipush (v := 126) C dX4_broken_37 rfl ?_
            refine rb_icmp_eq (tgt := 49) C dX4_broken_39 (by decide) (fun c_26 => ?_) (fun c_26 => ?_)
            · have hf := (if_pos c_26).symm.trans hf
              refine rb_iconst (v := 1) C dX4_broken_49 rfl ?_
              refine rb_goto (tgt := 81) C dX4_broken_50 (by decide) ?_
              refine rb_sub [1, 2, 3, 4, 0] rfl ?_
              exact J_j81_10 1 hf
            · have hf := (if_neg c_26).symm.trans hf
              refine rb_iload C dX4_broken_42 0 rfl ?_
              refine rb_bipush (v := 40) C dX4_broken_44 rfl ?_
              refine rb_icmp_ne (tgt := 53) C dX4_broken_46 (by decide) (fun c_27 => ?_) (fun c_27 => ?_)
              · have hf := (if_neg c_27).symm.trans hf
                refine rb_iconst (v := 0) C dX4_broken_53 rfl ?_
                refine rb_goto (tgt := 81) C dX4_broken_54 (by decide) ?_
                refine rb_sub [1, 2, 3, 4, 0] rfl ?_
                exact J_j81_10 0 hf
              · have hf := (if_pos c_27).symm.trans hf
                refine rb_iconst (v := 1) C dX4_broken_49 rfl ?_
                refine rb_goto (tgt := 81) C dX4_broken_50 (by decide) ?_
                refine rb_sub [1, 2, 3, 4, 0] rfl ?_
                exact J_j81_10 1 hf
  refine rb_sub [3, 2, 1, 0] rfl ?_
  exact L_l6_1 4096 0 1 0 hf
def f_X4_isExpression (S : Nat → Int32) (A : Nat → Nat → Int32) : Option (Int32 × (Nat → Int32) × (Nat → Nat → Int32)) := ((f_X4_broken (upd S 8 0) A ).bind fun v_4 => (if 0 ≤ v_4 then (some (0, (upd S 8 0), A)) else (some (1, (upd S 8 0), A))))
abbrev rm_X4_isExpression : Room := { frames := 4, cells := 0, slots := 0, locals := 87 }
set_option maxHeartbeats 4000000 in
theorem ct_X4_isExpression (Ev : rb_E) (h : AH) (n : Nat) (o : Nat) (a : Nat → Nat) (S : Nat → Int32) (A : Nat → Nat → Int32)  (rv : Int32) (rS : Nat → Int32) (rA : Nat → Nat → Int32) (hM : MD Ev h o a S A) (hf : f_X4_isExpression S A = some (rv, rS, rA)) : Ct Ev yX4_isExpression (ws_ yX4_isExpression cX4_isExpression 1 (some .boolean)) rm_X4_isExpression [.ref o] h n (pM Ev .boolean o a h n rv rS rA) := by
  refine Ct.of rfl (Nat.le_of_ble_eq_true rfl) fun X C hnm => ?_
  have C : Cx Ev X RX4 cX4_isExpression 1 (some .boolean) [] := C
  show Wa Ev X rm_X4_isExpression 1 h n 0 0 (rb_MQ Ev X rm_X4_isExpression (pM Ev .boolean o a h n rv rS rA)) 0 [(0, .ref o)] []
  have hF : mdFr h h o a := mdFr.rf
  rw [f_X4_isExpression] at hf
  refine rb_aload_n C dX4_isExpression_0 rfl 0 rfl ?_
  refine rb_iconst (v := 0) C dX4_isExpression_1 rfl ?_
  refine rb_put (v := .int 0) C fw_X4_73_X4 hM.1 rfl rfl (Nat.le_of_ble_eq_true rfl) dX4_isExpression_2 (fun h_1 e1 e2 => ?_)
  have hM : MD Ev h_1 o a (upd S 8 0) A := hM.put e1 e2 rfl
  have hF := hF.put e2
  refine rb_aload_n C dX4_isExpression_5 rfl 0 rfl ?_
  obtain ⟨v_4, e_3, hf⟩ := rb_bd hf
  refine rb_zVR C mi_X4_broken sv_X4_141 (IsC.of (Or.inl hM.1) ck_X4) (ct_X4_broken Ev h_1 n o a (upd S 8 0) A  _ hM e_3) (rest := []) rfl rfl (Nat.le_of_ble_eq_true rfl) ⟨Nat.le_of_ble_eq_true rfl, Nat.le_of_ble_eq_true rfl⟩ ⟨Nat.zero_le _, Nat.zero_le _⟩ dX4_isExpression_6 (fun hn_5 => ?_)
  refine rb_if_ge (tgt := 16) C dX4_isExpression_9 (by decide) (fun c_6 => ?_) (fun c_6 => ?_)
  · have hf := (if_pos c_6).symm.trans hf
    refine rb_iconst (v := 0) C dX4_isExpression_16 rfl ?_
    cases hf
    exact rb_iret C rfl rfl (Nat.zero_le _) (Nat.zero_le _) dX4_isExpression_17 ⟨rfl, rfl, hM, hF, rfl⟩
  · have hf := (if_neg c_6).symm.trans hf
    refine rb_iconst (v := 1) C dX4_isExpression_12 rfl ?_
    refine rb_goto (tgt := 17) C dX4_isExpression_13 (by decide) ?_
    cases hf
    exact rb_iret C rfl rfl (Nat.zero_le _) (Nat.zero_le _) dX4_isExpression_17 ⟨rfl, rfl, hM, hF, rfl⟩
def f_X4_breakPlace_j13_6 (S : Nat → Int32) (A : Nat → Nat → Int32) (w0_j13_6 : Int32) : Option (Int32 × (Nat → Int32) × (Nat → Nat → Int32)) := ((f_X4_fails S A w0_j13_6).bind fun (v_12, S_9, A_10) => (if v_12 = 0 then ((f_X4_broken S_9 A_10 ).bind fun v_17 => (some (v_17, S_9, A_10))) else (some (0, S_9, A_10))))
def f_X4_breakPlace (S : Nat → Int32) (A : Nat → Nat → Int32) : Option (Int32 × (Nat → Int32) × (Nat → Nat → Int32)) := ((f_X4_broken S A ).bind fun v_3 => (if 0 ≤ v_3 then (f_X4_breakPlace_j13_6 S A 0) else (f_X4_breakPlace_j13_6 S A 1)))
abbrev rm_X4_breakPlace : Room := { frames := 4, cells := 0, slots := 0, locals := 87 }
set_option maxHeartbeats 4000000 in
theorem ct_X4_breakPlace (Ev : rb_E) (h : AH) (n : Nat) (o : Nat) (a : Nat → Nat) (S : Nat → Int32) (A : Nat → Nat → Int32)  (rv : Int32) (rS : Nat → Int32) (rA : Nat → Nat → Int32) (hM : MD Ev h o a S A) (hf : f_X4_breakPlace S A = some (rv, rS, rA)) : Ct Ev yX4_breakPlace (ws_ yX4_breakPlace cX4_breakPlace 1 (some .int)) rm_X4_breakPlace [.ref o] h n (pM Ev .int o a h n rv rS rA) := by
  refine Ct.of rfl (Nat.le_of_ble_eq_true rfl) fun X C hnm => ?_
  have C : Cx Ev X RX4 cX4_breakPlace 1 (some .int) [] := C
  show Wa Ev X rm_X4_breakPlace 1 h n 0 0 (rb_MQ Ev X rm_X4_breakPlace (pM Ev .int o a h n rv rS rA)) 0 [(0, .ref o)] []
  have hF : mdFr h h o a := mdFr.rf
  rw [f_X4_breakPlace] at hf
  refine rb_aload_n C dX4_breakPlace_0 rfl 0 rfl ?_
  refine rb_aload_n C dX4_breakPlace_1 rfl 0 rfl ?_
  obtain ⟨v_3, e_2, hf⟩ := rb_bd hf
  refine rb_zVR C mi_X4_broken sv_X4_141 (IsC.of (Or.inl hM.1) ck_X4) (ct_X4_broken Ev h n o a S A  _ hM e_2) (rest := [.ref o]) rfl rfl (Nat.le_of_ble_eq_true rfl) ⟨Nat.le_of_ble_eq_true rfl, Nat.le_of_ble_eq_true rfl⟩ ⟨Nat.zero_le _, Nat.zero_le _⟩ dX4_breakPlace_2 (fun hn_4 => ?_)
  have J_j13_6 : ∀ (w0_j13_6 : Int32), f_X4_breakPlace_j13_6 S A w0_j13_6 = some (rv, rS, rA) → Wa Ev X rm_X4_breakPlace 1 h n 0 0 (rb_MQ Ev X rm_X4_breakPlace (pM Ev .int o a h n rv rS rA)) 13 [(0, .ref o)] [.int w0_j13_6, .ref o] := by
    intro w0_j13_6 hf
    rw [f_X4_breakPlace_j13_6] at hf
    obtain ⟨⟨v_12, S_9, A_10⟩, e_8, hf⟩ := rb_bd hf
    refine rb_zVM C mi_X4_fails sv_X4_123 (IsC.of (Or.inl hM.1) ck_X4) (ct_X4_fails Ev h n o a S A w0_j13_6 _ _ _ hM e_8) (rest := []) rfl rfl (Nat.le_of_ble_eq_true rfl) ⟨Nat.le_of_ble_eq_true rfl, Nat.le_of_ble_eq_true rfl⟩ ⟨Nat.zero_le _, Nat.zero_le _⟩ dX4_breakPlace_13 (fun h_11 hM hF1 hn_13 => ?_)
    have hF := hF.tr hF1
    refine rb_if_eq (tgt := 23) C dX4_breakPlace_16 (by decide) (fun c_14 => ?_) (fun c_14 => ?_)
    · have hf := (if_pos c_14).symm.trans hf
      refine rb_aload_n C dX4_breakPlace_23 rfl 0 rfl ?_
      obtain ⟨v_17, e_16, hf⟩ := rb_bd hf
      refine rb_zVR C mi_X4_broken sv_X4_141 (IsC.of (Or.inl hM.1) ck_X4) (ct_X4_broken Ev h_11 n o a S_9 A_10  _ hM e_16) (rest := []) rfl rfl (Nat.le_of_ble_eq_true rfl) ⟨Nat.le_of_ble_eq_true rfl, Nat.le_of_ble_eq_true rfl⟩ ⟨Nat.zero_le _, Nat.zero_le _⟩ dX4_breakPlace_24 (fun hn_18 => ?_)
      cases hf
      exact rb_iret C rfl rfl (Nat.zero_le _) (Nat.zero_le _) dX4_breakPlace_27 ⟨rfl, rfl, hM, hF, rfl⟩
    · have hf := (if_neg c_14).symm.trans hf
      refine rb_iconst (v := 0) C dX4_breakPlace_19 rfl ?_
      refine rb_goto (tgt := 27) C dX4_breakPlace_20 (by decide) ?_
      cases hf
      exact rb_iret C rfl rfl (Nat.zero_le _) (Nat.zero_le _) dX4_breakPlace_27 ⟨rfl, rfl, hM, hF, rfl⟩
  refine rb_if_ge (tgt := 12) C dX4_breakPlace_5 (by decide) (fun c_5 => ?_) (fun c_5 => ?_)
  · have hf := (if_pos c_5).symm.trans hf
    refine rb_iconst (v := 0) C dX4_breakPlace_12 rfl ?_
    exact J_j13_6 0 hf
  · have hf := (if_neg c_5).symm.trans hf
    refine rb_iconst (v := 1) C dX4_breakPlace_8 rfl ?_
    refine rb_goto (tgt := 13) C dX4_breakPlace_9 (by decide) ?_
    exact J_j13_6 1 hf
def f_X4_setColour_j23_3 (x1 : Int32) (x2 : Int32) (S : Nat → Int32) (A : Nat → Nat → Int32) (w0_j23_3 : Int32) : Option (Int32 × (Nat → Int32) × (Nat → Nat → Int32)) := ((f_X4_fails S A w0_j23_3).bind fun (v_9, S_6, A_7) => (if v_9 = 0 then if ((25 + (f_X4_signOf x1)) < 0 ∨ 44 ≤ (25 + (f_X4_signOf x1)).toNatClampNeg) then none else ((f_X4_keeps_0 S_6 A_7 ).bind fun (S_15, A_16) => if ((25 + (f_X4_signOf x1)) < 0 ∨ 44 ≤ (25 + (f_X4_signOf x1)).toNatClampNeg) then none else (some (((A_7 0) (25 + (f_X4_signOf x1)).toNatClampNeg), S_15, (va_up A_16 0 (upd (A_16 0) (25 + (f_X4_signOf x1)).toNatClampNeg x2))))) else (some (0, S_6, A_7))))
def f_X4_setColour (S : Nat → Int32) (A : Nat → Nat → Int32) (x1 : Int32) (x2 : Int32) : Option (Int32 × (Nat → Int32) × (Nat → Nat → Int32)) := (if (f_X4_signOf x1) < 0 then (f_X4_setColour_j23_3 x1 x2 S A 1) else (if (f_X4_in x2 0 6) = 0 then (f_X4_setColour_j23_3 x1 x2 S A 1) else (f_X4_setColour_j23_3 x1 x2 S A 0)))
abbrev rm_X4_setColour : Room := { frames := 2, cells := 0, slots := 0, locals := 46 }
set_option maxHeartbeats 4000000 in
theorem ct_X4_setColour (Ev : rb_E) (h : AH) (n : Nat) (o : Nat) (a : Nat → Nat) (S : Nat → Int32) (A : Nat → Nat → Int32) (x1 : Int32) (x2 : Int32) (rv : Int32) (rS : Nat → Int32) (rA : Nat → Nat → Int32) (hM : MD Ev h o a S A) (hf : f_X4_setColour S A x1 x2 = some (rv, rS, rA)) : Ct Ev yX4_setColour (ws_ yX4_setColour cX4_setColour 4 (some .int)) rm_X4_setColour [.ref o, .int x1, .int x2] h n (pM Ev .int o a h n rv rS rA) := by
  refine Ct.of rfl (Nat.le_of_ble_eq_true rfl) fun X C hnm => ?_
  have C : Cx Ev X RX4 cX4_setColour 4 (some .int) [] := C
  show Wa Ev X rm_X4_setColour 4 h n 0 0 (rb_MQ Ev X rm_X4_setColour (pM Ev .int o a h n rv rS rA)) 0 [(0, .ref o), (1, .int x1), (2, .int x2)] []
  have hF : mdFr h h o a := mdFr.rf
  rw [f_X4_setColour] at hf
  refine rb_aload_n C dX4_setColour_0 rfl 0 rfl ?_
  refine rb_iload_n C dX4_setColour_1 rfl 1 rfl ?_
  refine rb_zSR C mi_X4_signOf ss_X4_99 (ct_X4_signOf Ev h n x1 _ rfl) (rest := [.ref o]) rfl rfl (Nat.le_of_ble_eq_true rfl) ⟨Nat.le_of_ble_eq_true rfl, Nat.le_of_ble_eq_true rfl⟩ ⟨Nat.zero_le _, Nat.zero_le _⟩ dX4_setColour_2 (fun hn_1 => ?_)
  have J_j23_3 : ∀ (w0_j23_3 : Int32), f_X4_setColour_j23_3 x1 x2 S A w0_j23_3 = some (rv, rS, rA) → Wa Ev X rm_X4_setColour 4 h n 0 0 (rb_MQ Ev X rm_X4_setColour (pM Ev .int o a h n rv rS rA)) 23 [(0, .ref o), (1, .int x1), (2, .int x2)] [.int w0_j23_3, .ref o] := by
    intro w0_j23_3 hf
    rw [f_X4_setColour_j23_3] at hf
    obtain ⟨⟨v_9, S_6, A_7⟩, e_5, hf⟩ := rb_bd hf
    refine rb_zVM C mi_X4_fails sv_X4_123 (IsC.of (Or.inl hM.1) ck_X4) (ct_X4_fails Ev h n o a S A w0_j23_3 _ _ _ hM e_5) (rest := []) rfl rfl (Nat.le_of_ble_eq_true rfl) ⟨Nat.le_of_ble_eq_true rfl, Nat.le_of_ble_eq_true rfl⟩ ⟨Nat.zero_le _, Nat.zero_le _⟩ dX4_setColour_23 (fun h_8 hM hF1 hn_10 => ?_)
    have hF := hF.tr hF1
    refine rb_if_eq (tgt := 31) C dX4_setColour_26 (by decide) (fun c_11 => ?_) (fun c_11 => ?_)
    · have hf := (if_pos c_11).symm.trans hf
      refine rb_aload_n C dX4_setColour_31 rfl 0 rfl ?_
      refine rb_get (v := .ref (a 0)) C fl_X4_7_X4 (Or.inl hM.1) rfl dX4_setColour_32 ?_
      refine rb_bipush (v := 25) C dX4_setColour_35 rfl ?_
      refine rb_iload_n C dX4_setColour_37 rfl 1 rfl ?_
      refine rb_zSR C mi_X4_signOf ss_X4_99 (ct_X4_signOf Ev h_8 n x1 _ rfl) (rest := [.int 25, .ref (a 0)]) rfl rfl (Nat.le_of_ble_eq_true rfl) ⟨Nat.le_of_ble_eq_true rfl, Nat.le_of_ble_eq_true rfl⟩ ⟨Nat.zero_le _, Nat.zero_le _⟩ dX4_setColour_38 (fun hn_12 => ?_)
      refine rb_iadd C dX4_setColour_41 ?_
      by_cases c_g : ((25 + (f_X4_signOf x1)) < 0 ∨ 44 ≤ (25 + (f_X4_signOf x1)).toNatClampNeg)
      · exact absurd ((if_pos c_g).symm.trans hf) (fun z => by cases z)
      have hf := (if_neg c_g).symm.trans hf
      refine rb_iald (f := (A_7 0)) C (Or.inl (hM.2.1 0 rfl)) (rb_nN c_g) dX4_setColour_42 ?_
      refine rb_istore_n (lv' := [(3, .int ((A_7 0) (25 + (f_X4_signOf x1)).toNatClampNeg)), (0, .ref o), (1, .int x1), (2, .int x2)]) C dX4_setColour_43 rfl (by decide) rfl ?_
      refine rb_aload_n C dX4_setColour_44 rfl 1 rfl ?_
      refine rb_aload_n C dX4_setColour_45 rfl 1 rfl ?_
      refine rb_get (v := .ref (a 0)) C fl_X4_7_X4 (Or.inl hM.1) rfl dX4_setColour_46 ?_
      obtain ⟨⟨S_15, A_16⟩, e_14, hf⟩ := rb_bd hf
      refine rb_zVMv C mi_X4_keeps sv_X4_134 (IsC.of (Or.inl hM.1) ck_X4) (ct_X4_keeps_0 Ev h_8 n o a S_6 A_7  _ _ hM e_14) (rest := []) rfl rfl (Nat.le_of_ble_eq_true rfl) ⟨Nat.le_of_ble_eq_true rfl, Nat.le_of_ble_eq_true rfl⟩ ⟨Nat.zero_le _, Nat.zero_le _⟩ dX4_setColour_49 (fun h_17 hM hF1 => ?_)
      have hF := hF.tr hF1
      refine rb_aload_n C dX4_setColour_52 rfl 1 rfl ?_
      refine rb_get (v := .ref (a 0)) C fl_X4_7_X4 (Or.inl hM.1) rfl dX4_setColour_53 ?_
      refine rb_bipush (v := 25) C dX4_setColour_56 rfl ?_
      refine rb_iload_n C dX4_setColour_58 rfl 2 rfl ?_
      refine rb_zSR C mi_X4_signOf ss_X4_99 (ct_X4_signOf Ev h_17 n x1 _ rfl) (rest := [.int 25, .ref (a 0)]) rfl rfl (Nat.le_of_ble_eq_true rfl) ⟨Nat.le_of_ble_eq_true rfl, Nat.le_of_ble_eq_true rfl⟩ ⟨Nat.zero_le _, Nat.zero_le _⟩ dX4_setColour_59 (fun hn_19 => ?_)
      refine rb_iadd C dX4_setColour_62 ?_
      refine rb_iload_n C dX4_setColour_63 rfl 3 rfl ?_
      by_cases c_g : ((25 + (f_X4_signOf x1)) < 0 ∨ 44 ≤ (25 + (f_X4_signOf x1)).toNatClampNeg)
      · exact absurd ((if_pos c_g).symm.trans hf) (fun z => by cases z)
      have hf := (if_neg c_g).symm.trans hf
      refine rb_iast (f := (A_16 0)) C (hM.2.1 0 rfl) (rb_nN c_g) dX4_setColour_64 (fun h_20 e1 e2 => ?_)
      have hM : MD Ev h_20 o a S_15 (va_up A_16 0 (upd (A_16 0) (25 + (f_X4_signOf x1)).toNatClampNeg x2)) := hM.ast 0 rfl e1 e2
      have hF := hF.ast 0 rfl e2
      refine rb_iload_n C dX4_setColour_65 rfl 0 rfl ?_
      cases hf
      exact rb_iret C rfl rfl (Nat.zero_le _) (Nat.zero_le _) dX4_setColour_66 ⟨rfl, rfl, hM, hF, rfl⟩
    · have hf := (if_neg c_11).symm.trans hf
      refine rb_iconst (v := 0) C dX4_setColour_29 rfl ?_
      cases hf
      exact rb_iret C rfl rfl (Nat.zero_le _) (Nat.zero_le _) dX4_setColour_30 ⟨rfl, rfl, hM, hF, rfl⟩
  refine rb_if_lt (tgt := 22) C dX4_setColour_5 (by decide) (fun c_2 => ?_) (fun c_2 => ?_)
  · have hf := (if_pos c_2).symm.trans hf
    refine rb_iconst (v := 1) C dX4_setColour_22 rfl ?_
    exact J_j23_3 1 hf
  · have hf := (if_neg c_2).symm.trans hf
    refine rb_iload_n C dX4_setColour_8 rfl 2 rfl ?_
    refine rb_iconst (v := 0) C dX4_setColour_9 rfl ?_
    refine rb_bipush (v := 6) C dX4_setColour_10 rfl ?_
    refine rb_zSR C mi_X4_in ss_X4_103 (ct_X4_in Ev h n x2 0 6 _ rfl) (rest := [.ref o]) rfl rfl (Nat.le_of_ble_eq_true rfl) ⟨Nat.le_of_ble_eq_true rfl, Nat.le_of_ble_eq_true rfl⟩ ⟨Nat.zero_le _, Nat.zero_le _⟩ dX4_setColour_12 (fun hn_21 => ?_)
    refine rb_if_eq (tgt := 22) C dX4_setColour_15 (by decide) (fun c_22 => ?_) (fun c_22 => ?_)
    · have hf := (if_pos c_22).symm.trans hf
      refine rb_iconst (v := 1) C dX4_setColour_22 rfl ?_
      exact J_j23_3 1 hf
    · have hf := (if_neg c_22).symm.trans hf
      refine rb_iconst (v := 0) C dX4_setColour_18 rfl ?_
      refine rb_goto (tgt := 23) C dX4_setColour_19 (by decide) ?_
      exact J_j23_3 0 hf
def f_X4_isMeaning (x0 : Int32) : Int32 := (if x0 = 115 then 1 else (if x0 = 100 then 1 else (if x0 = 112 then 1 else (if x0 = 103 then 1 else (if x0 = 108 then 1 else (if x0 = 106 then 1 else 0))))))
abbrev rm_X4_isMeaning : Room := { frames := 0, cells := 0, slots := 0, locals := 0 }
set_option maxHeartbeats 4000000 in
theorem ct_X4_isMeaning (Ev : rb_E) (h : AH) (n : Nat) (x0 : Int32) (rv : Int32) (hf : f_X4_isMeaning x0 = rv) : Ct Ev yX4_isMeaning (ws_ yX4_isMeaning cX4_isMeaning 1 (some .boolean)) rm_X4_isMeaning [.int x0] h n (pR .boolean rv h n) := by
  refine Ct.of rfl (Nat.le_of_ble_eq_true rfl) fun X C hnm => ?_
  have C : Cx Ev X RX4 cX4_isMeaning 1 (some .boolean) [] := C
  show Wa Ev X rm_X4_isMeaning 1 h n 0 0 (rb_MQ Ev X rm_X4_isMeaning (pR .boolean rv h n)) 0 [(0, .int x0)] []
  rw [f_X4_isMeaning] at hf
  refine rb_iload_n C dX4_isMeaning_0 rfl 0 rfl ?_
  refine rb_bipush (v := 115) C dX4_isMeaning_1 rfl ?_
  refine rb_icmp_eq (tgt := 36) C dX4_isMeaning_3 (by decide) (fun c_1 => ?_) (fun c_1 => ?_)
  · have hf := (if_pos c_1).symm.trans hf
    refine rb_iconst (v := 1) C dX4_isMeaning_36 rfl ?_
    refine rb_goto (tgt := 41) C dX4_isMeaning_37 (by decide) ?_
    subst hf
    exact rb_iret C rfl rfl (Nat.zero_le _) (Nat.zero_le _) dX4_isMeaning_41 ⟨rfl, rfl, rfl, rfl⟩
  · have hf := (if_neg c_1).symm.trans hf
    refine rb_iload_n C dX4_isMeaning_6 rfl 0 rfl ?_
    refine rb_bipush (v := 100) C dX4_isMeaning_7 rfl ?_
    refine rb_icmp_eq (tgt := 36) C dX4_isMeaning_9 (by decide) (fun c_2 => ?_) (fun c_2 => ?_)
    · have hf := (if_pos c_2).symm.trans hf
      refine rb_iconst (v := 1) C dX4_isMeaning_36 rfl ?_
      refine rb_goto (tgt := 41) C dX4_isMeaning_37 (by decide) ?_
      subst hf
      exact rb_iret C rfl rfl (Nat.zero_le _) (Nat.zero_le _) dX4_isMeaning_41 ⟨rfl, rfl, rfl, rfl⟩
    · have hf := (if_neg c_2).symm.trans hf
      refine rb_iload_n C dX4_isMeaning_12 rfl 0 rfl ?_
      refine rb_bipush (v := 112) C dX4_isMeaning_13 rfl ?_
      refine rb_icmp_eq (tgt := 36) C dX4_isMeaning_15 (by decide) (fun c_3 => ?_) (fun c_3 => ?_)
      · have hf := (if_pos c_3).symm.trans hf
        refine rb_iconst (v := 1) C dX4_isMeaning_36 rfl ?_
        refine rb_goto (tgt := 41) C dX4_isMeaning_37 (by decide) ?_
        subst hf
        exact rb_iret C rfl rfl (Nat.zero_le _) (Nat.zero_le _) dX4_isMeaning_41 ⟨rfl, rfl, rfl, rfl⟩
      · have hf := (if_neg c_3).symm.trans hf
        refine rb_iload_n C dX4_isMeaning_18 rfl 0 rfl ?_
        refine rb_bipush (v := 103) C dX4_isMeaning_19 rfl ?_
        refine rb_icmp_eq (tgt := 36) C dX4_isMeaning_21 (by decide) (fun c_4 => ?_) (fun c_4 => ?_)
        · have hf := (if_pos c_4).symm.trans hf
          refine rb_iconst (v := 1) C dX4_isMeaning_36 rfl ?_
          refine rb_goto (tgt := 41) C dX4_isMeaning_37 (by decide) ?_
          subst hf
          exact rb_iret C rfl rfl (Nat.zero_le _) (Nat.zero_le _) dX4_isMeaning_41 ⟨rfl, rfl, rfl, rfl⟩
        · have hf := (if_neg c_4).symm.trans hf
          refine rb_iload_n C dX4_isMeaning_24 rfl 0 rfl ?_
          refine rb_bipush (v := 108) C dX4_isMeaning_25 rfl ?_
          refine rb_icmp_eq (tgt := 36) C dX4_isMeaning_27 (by decide) (fun c_5 => ?_) (fun c_5 => ?_)
          · have hf := (if_pos c_5).symm.trans hf
            refine rb_iconst (v := 1) C dX4_isMeaning_36 rfl ?_
            refine rb_goto (tgt := 41) C dX4_isMeaning_37 (by decide) ?_
            subst hf
            exact rb_iret C rfl rfl (Nat.zero_le _) (Nat.zero_le _) dX4_isMeaning_41 ⟨rfl, rfl, rfl, rfl⟩
          · have hf := (if_neg c_5).symm.trans hf
            refine rb_iload_n C dX4_isMeaning_30 rfl 0 rfl ?_
            refine rb_bipush (v := 106) C dX4_isMeaning_31 rfl ?_
            refine rb_icmp_ne (tgt := 40) C dX4_isMeaning_33 (by decide) (fun c_6 => ?_) (fun c_6 => ?_)
            · have hf := (if_neg c_6).symm.trans hf
              refine rb_iconst (v := 0) C dX4_isMeaning_40 rfl ?_
              subst hf
              exact rb_iret C rfl rfl (Nat.zero_le _) (Nat.zero_le _) dX4_isMeaning_41 ⟨rfl, rfl, rfl, rfl⟩
            · have hf := (if_pos c_6).symm.trans hf
              refine rb_iconst (v := 1) C dX4_isMeaning_36 rfl ?_
              refine rb_goto (tgt := 41) C dX4_isMeaning_37 (by decide) ?_
              subst hf
              exact rb_iret C rfl rfl (Nat.zero_le _) (Nat.zero_le _) dX4_isMeaning_41 ⟨rfl, rfl, rfl, rfl⟩
def f_X4_setMeaning_j20_3 (x1 : Int32) (x2 : Int32) (S : Nat → Int32) (A : Nat → Nat → Int32) (w0_j20_3 : Int32) : Option (Int32 × (Nat → Int32) × (Nat → Nat → Int32)) := ((f_X4_fails S A w0_j20_3).bind fun (v_9, S_6, A_7) => (if v_9 = 0 then if ((32 + (f_X4_signOf x1)) < 0 ∨ 44 ≤ (32 + (f_X4_signOf x1)).toNatClampNeg) then none else ((f_X4_keeps_0 S_6 A_7 ).bind fun (S_15, A_16) => if ((32 + (f_X4_signOf x1)) < 0 ∨ 44 ≤ (32 + (f_X4_signOf x1)).toNatClampNeg) then none else (some ((((A_7 0) (32 + (f_X4_signOf x1)).toNatClampNeg).toUInt32 % 65536).toInt32, S_15, (va_up A_16 0 (upd (A_16 0) (32 + (f_X4_signOf x1)).toNatClampNeg x2))))) else (some (32, S_6, A_7))))
def f_X4_setMeaning (S : Nat → Int32) (A : Nat → Nat → Int32) (x1 : Int32) (x2 : Int32) : Option (Int32 × (Nat → Int32) × (Nat → Nat → Int32)) := (if (f_X4_isOperator x1) = 0 then (f_X4_setMeaning_j20_3 x1 x2 S A 1) else (if (f_X4_isMeaning x2) = 0 then (f_X4_setMeaning_j20_3 x1 x2 S A 1) else (f_X4_setMeaning_j20_3 x1 x2 S A 0)))
abbrev rm_X4_setMeaning : Room := { frames := 2, cells := 0, slots := 0, locals := 46 }
set_option maxHeartbeats 4000000 in
theorem ct_X4_setMeaning (Ev : rb_E) (h : AH) (n : Nat) (o : Nat) (a : Nat → Nat) (S : Nat → Int32) (A : Nat → Nat → Int32) (x1 : Int32) (x2 : Int32) (rv : Int32) (rS : Nat → Int32) (rA : Nat → Nat → Int32) (hM : MD Ev h o a S A) (hf : f_X4_setMeaning S A x1 x2 = some (rv, rS, rA)) : Ct Ev yX4_setMeaning (ws_ yX4_setMeaning cX4_setMeaning 4 (some .char)) rm_X4_setMeaning [.ref o, .int x1, .int x2] h n (pM Ev .char o a h n rv rS rA) := by
  refine Ct.of rfl (Nat.le_of_ble_eq_true rfl) fun X C hnm => ?_
  have C : Cx Ev X RX4 cX4_setMeaning 4 (some .char) [] := C
  show Wa Ev X rm_X4_setMeaning 4 h n 0 0 (rb_MQ Ev X rm_X4_setMeaning (pM Ev .char o a h n rv rS rA)) 0 [(0, .ref o), (1, .int x1), (2, .int x2)] []
  have hF : mdFr h h o a := mdFr.rf
  rw [f_X4_setMeaning] at hf
  refine rb_aload_n C dX4_setMeaning_0 rfl 0 rfl ?_
  refine rb_iload_n C dX4_setMeaning_1 rfl 1 rfl ?_
  refine rb_zSR C mi_X4_isOperator ss_X4_138 (ct_X4_isOperator Ev h n x1 _ rfl) (rest := [.ref o]) rfl rfl (Nat.le_of_ble_eq_true rfl) ⟨Nat.le_of_ble_eq_true rfl, Nat.le_of_ble_eq_true rfl⟩ ⟨Nat.zero_le _, Nat.zero_le _⟩ dX4_setMeaning_2 (fun hn_1 => ?_)
  have J_j20_3 : ∀ (w0_j20_3 : Int32), f_X4_setMeaning_j20_3 x1 x2 S A w0_j20_3 = some (rv, rS, rA) → Wa Ev X rm_X4_setMeaning 4 h n 0 0 (rb_MQ Ev X rm_X4_setMeaning (pM Ev .char o a h n rv rS rA)) 20 [(0, .ref o), (1, .int x1), (2, .int x2)] [.int w0_j20_3, .ref o] := by
    intro w0_j20_3 hf
    rw [f_X4_setMeaning_j20_3] at hf
    obtain ⟨⟨v_9, S_6, A_7⟩, e_5, hf⟩ := rb_bd hf
    refine rb_zVM C mi_X4_fails sv_X4_123 (IsC.of (Or.inl hM.1) ck_X4) (ct_X4_fails Ev h n o a S A w0_j20_3 _ _ _ hM e_5) (rest := []) rfl rfl (Nat.le_of_ble_eq_true rfl) ⟨Nat.le_of_ble_eq_true rfl, Nat.le_of_ble_eq_true rfl⟩ ⟨Nat.zero_le _, Nat.zero_le _⟩ dX4_setMeaning_20 (fun h_8 hM hF1 hn_10 => ?_)
    have hF := hF.tr hF1
    refine rb_if_eq (tgt := 29) C dX4_setMeaning_23 (by decide) (fun c_11 => ?_) (fun c_11 => ?_)
    · have hf := (if_pos c_11).symm.trans hf
      refine rb_aload_n C dX4_setMeaning_29 rfl 0 rfl ?_
      refine rb_get (v := .ref (a 0)) C fl_X4_7_X4 (Or.inl hM.1) rfl dX4_setMeaning_30 ?_
      refine rb_bipush (v := 32) C dX4_setMeaning_33 rfl ?_
      refine rb_iload_n C dX4_setMeaning_35 rfl 1 rfl ?_
      refine rb_zSR C mi_X4_signOf ss_X4_99 (ct_X4_signOf Ev h_8 n x1 _ rfl) (rest := [.int 32, .ref (a 0)]) rfl rfl (Nat.le_of_ble_eq_true rfl) ⟨Nat.le_of_ble_eq_true rfl, Nat.le_of_ble_eq_true rfl⟩ ⟨Nat.zero_le _, Nat.zero_le _⟩ dX4_setMeaning_36 (fun hn_12 => ?_)
      refine rb_iadd C dX4_setMeaning_39 ?_
      by_cases c_g : ((32 + (f_X4_signOf x1)) < 0 ∨ 44 ≤ (32 + (f_X4_signOf x1)).toNatClampNeg)
      · exact absurd ((if_pos c_g).symm.trans hf) (fun z => by cases z)
      have hf := (if_neg c_g).symm.trans hf
      refine rb_iald (f := (A_7 0)) C (Or.inl (hM.2.1 0 rfl)) (rb_nN c_g) dX4_setMeaning_40 ?_
      refine rb_istore_n (lv' := [(3, .int ((A_7 0) (32 + (f_X4_signOf x1)).toNatClampNeg)), (0, .ref o), (1, .int x1), (2, .int x2)]) C dX4_setMeaning_41 rfl (by decide) rfl ?_
      refine rb_aload_n C dX4_setMeaning_42 rfl 1 rfl ?_
      refine rb_aload_n C dX4_setMeaning_43 rfl 1 rfl ?_
      refine rb_get (v := .ref (a 0)) C fl_X4_7_X4 (Or.inl hM.1) rfl dX4_setMeaning_44 ?_
      obtain ⟨⟨S_15, A_16⟩, e_14, hf⟩ := rb_bd hf
      refine rb_zVMv C mi_X4_keeps sv_X4_134 (IsC.of (Or.inl hM.1) ck_X4) (ct_X4_keeps_0 Ev h_8 n o a S_6 A_7  _ _ hM e_14) (rest := []) rfl rfl (Nat.le_of_ble_eq_true rfl) ⟨Nat.le_of_ble_eq_true rfl, Nat.le_of_ble_eq_true rfl⟩ ⟨Nat.zero_le _, Nat.zero_le _⟩ dX4_setMeaning_47 (fun h_17 hM hF1 => ?_)
      have hF := hF.tr hF1
      refine rb_aload_n C dX4_setMeaning_50 rfl 1 rfl ?_
      refine rb_get (v := .ref (a 0)) C fl_X4_7_X4 (Or.inl hM.1) rfl dX4_setMeaning_51 ?_
      refine rb_bipush (v := 32) C dX4_setMeaning_54 rfl ?_
      refine rb_iload_n C dX4_setMeaning_56 rfl 2 rfl ?_
      refine rb_zSR C mi_X4_signOf ss_X4_99 (ct_X4_signOf Ev h_17 n x1 _ rfl) (rest := [.int 32, .ref (a 0)]) rfl rfl (Nat.le_of_ble_eq_true rfl) ⟨Nat.le_of_ble_eq_true rfl, Nat.le_of_ble_eq_true rfl⟩ ⟨Nat.zero_le _, Nat.zero_le _⟩ dX4_setMeaning_57 (fun hn_19 => ?_)
      refine rb_iadd C dX4_setMeaning_60 ?_
      refine rb_iload_n C dX4_setMeaning_61 rfl 3 rfl ?_
      by_cases c_g : ((32 + (f_X4_signOf x1)) < 0 ∨ 44 ≤ (32 + (f_X4_signOf x1)).toNatClampNeg)
      · exact absurd ((if_pos c_g).symm.trans hf) (fun z => by cases z)
      have hf := (if_neg c_g).symm.trans hf
      refine rb_iast (f := (A_16 0)) C (hM.2.1 0 rfl) (rb_nN c_g) dX4_setMeaning_62 (fun h_20 e1 e2 => ?_)
      have hM : MD Ev h_20 o a S_15 (va_up A_16 0 (upd (A_16 0) (32 + (f_X4_signOf x1)).toNatClampNeg x2)) := hM.ast 0 rfl e1 e2
      have hF := hF.ast 0 rfl e2
      refine rb_iload_n C dX4_setMeaning_63 rfl 0 rfl ?_
      refine rb_i2c C dX4_setMeaning_64 rfl ?_
      have hc_21 : narrow .char (.int (((A_7 0) (32 + (f_X4_signOf x1)).toNatClampNeg).toUInt32 % 65536).toInt32) = .int (((A_7 0) (32 + (f_X4_signOf x1)).toNatClampNeg).toUInt32 % 65536).toInt32 := pk_nc ((A_7 0) (32 + (f_X4_signOf x1)).toNatClampNeg)
      cases hf
      exact rb_iret C rfl hc_21 (Nat.zero_le _) (Nat.zero_le _) dX4_setMeaning_65 ⟨rfl, rfl, hM, hF, hc_21⟩
    · have hf := (if_neg c_11).symm.trans hf
      refine rb_bipush (v := 32) C dX4_setMeaning_26 rfl ?_
      cases hf
      exact rb_iret C rfl rfl (Nat.zero_le _) (Nat.zero_le _) dX4_setMeaning_28 ⟨rfl, rfl, hM, hF, rfl⟩
  refine rb_if_eq (tgt := 19) C dX4_setMeaning_5 (by decide) (fun c_2 => ?_) (fun c_2 => ?_)
  · have hf := (if_pos c_2).symm.trans hf
    refine rb_iconst (v := 1) C dX4_setMeaning_19 rfl ?_
    exact J_j20_3 1 hf
  · have hf := (if_neg c_2).symm.trans hf
    refine rb_iload_n C dX4_setMeaning_8 rfl 2 rfl ?_
    refine rb_zSR C mi_X4_isMeaning ss_X4_144 (ct_X4_isMeaning Ev h n x2 _ rfl) (rest := [.ref o]) rfl rfl (Nat.le_of_ble_eq_true rfl) ⟨Nat.le_of_ble_eq_true rfl, Nat.le_of_ble_eq_true rfl⟩ ⟨Nat.zero_le _, Nat.zero_le _⟩ dX4_setMeaning_9 (fun hn_22 => ?_)
    refine rb_if_eq (tgt := 19) C dX4_setMeaning_12 (by decide) (fun c_23 => ?_) (fun c_23 => ?_)
    · have hf := (if_pos c_23).symm.trans hf
      refine rb_iconst (v := 1) C dX4_setMeaning_19 rfl ?_
      exact J_j20_3 1 hf
    · have hf := (if_neg c_23).symm.trans hf
      refine rb_iconst (v := 0) C dX4_setMeaning_15 rfl ?_
      refine rb_goto (tgt := 20) C dX4_setMeaning_16 (by decide) ?_
      exact J_j20_3 0 hf
def f_X4_isRight (S : Nat → Int32) (A : Nat → Nat → Int32) (x1 : Int32) : Option Int32 := (if ((((A 0) 38) >>> (x1 &&& 31)) &&& 1) = 1 then (some 1) else (some 0))
abbrev rm_X4_isRight : Room := { frames := 0, cells := 0, slots := 0, locals := 0 }
set_option maxHeartbeats 4000000 in
theorem ct_X4_isRight (Ev : rb_E) (h : AH) (n : Nat) (o : Nat) (a : Nat → Nat) (S : Nat → Int32) (A : Nat → Nat → Int32) (x1 : Int32) (rv : Int32) (hM : MD Ev h o a S A) (hf : f_X4_isRight S A x1 = some rv) : Ct Ev yX4_isRight (ws_ yX4_isRight cX4_isRight 2 (some .boolean)) rm_X4_isRight [.ref o, .int x1] h n (pR .boolean rv h n) := by
  refine Ct.of rfl (Nat.le_of_ble_eq_true rfl) fun X C hnm => ?_
  have C : Cx Ev X RX4 cX4_isRight 2 (some .boolean) [] := C
  show Wa Ev X rm_X4_isRight 2 h n 0 0 (rb_MQ Ev X rm_X4_isRight (pR .boolean rv h n)) 0 [(0, .ref o), (1, .int x1)] []
  have hF : mdFr h h o a := mdFr.rf
  rw [f_X4_isRight] at hf
  refine rb_aload_n C dX4_isRight_0 rfl 0 rfl ?_
  refine rb_get (v := .ref (a 0)) C fl_X4_7_X4 (Or.inl hM.1) rfl dX4_isRight_1 ?_
  refine rb_bipush (v := 38) C dX4_isRight_4 rfl ?_
  refine rb_iald (f := (A 0)) C (Or.inl (hM.2.1 0 rfl)) (rb_nN (by decide)) dX4_isRight_6 ?_
  refine rb_top (.int ((A 0) 38)) rfl ?_
  refine rb_iload_n C dX4_isRight_7 rfl 1 rfl ?_
  refine rb_ishr C dX4_isRight_8 ?_
  refine rb_iconst (v := 1) C dX4_isRight_9 rfl ?_
  refine rb_iand C dX4_isRight_10 ?_
  refine rb_iconst (v := 1) C dX4_isRight_11 rfl ?_
  refine rb_icmp_ne (tgt := 19) C dX4_isRight_12 (by decide) (fun c_1 => ?_) (fun c_1 => ?_)
  · have hf := (if_neg c_1).symm.trans hf
    refine rb_iconst (v := 0) C dX4_isRight_19 rfl ?_
    cases hf
    exact rb_iret C rfl rfl (Nat.zero_le _) (Nat.zero_le _) dX4_isRight_20 ⟨rfl, rfl, rfl, rfl⟩
  · have hf := (if_pos c_1).symm.trans hf
    refine rb_iconst (v := 1) C dX4_isRight_15 rfl ?_
    refine rb_goto (tgt := 20) C dX4_isRight_16 (by decide) ?_
    cases hf
    exact rb_iret C rfl rfl (Nat.zero_le _) (Nat.zero_le _) dX4_isRight_20 ⟨rfl, rfl, rfl, rfl⟩
def f_X4_turnStorm_j69_26 (y2_l49_19 : Int32) (y3_l49_19 : Int32) (rec_l49_19 : Int32 → Int32 → Option (Int32 × (Nat → Int32) × (Nat → Nat → Int32))) (w0_j69_26 : Int32) : Option (Int32 × (Nat → Int32) × (Nat → Nat → Int32)) := (rec_l49_19 (y2_l49_19 + w0_j69_26) (y3_l49_19 + 1))
def f_X4_turnStorm_l49_19 (x1 : Int32) (S_14 : Nat → Int32) (A_15 : Nat → Nat → Int32) : Nat → Int32 → Int32 → Option (Int32 × (Nat → Int32) × (Nat → Nat → Int32))
  | 0, _, _ => none
  | k_l49_19 + 1, y2_l49_19, y3_l49_19 => (if 7 ≤ y3_l49_19 then (some (y2_l49_19, S_14, (va_up A_15 0 (upd (A_15 0) 38 (((A_15 0) 38) ^^^ (1 <<< (x1 &&& 31))))))) else ((f_X4_isRight S_14 (va_up A_15 0 (upd (A_15 0) 38 (((A_15 0) 38) ^^^ (1 <<< (x1 &&& 31))))) y3_l49_19).bind fun v_23 => (if v_23 = 0 then (f_X4_turnStorm_j69_26 y2_l49_19 y3_l49_19 (f_X4_turnStorm_l49_19 x1 S_14 A_15 k_l49_19) 0) else (f_X4_turnStorm_j69_26 y2_l49_19 y3_l49_19 (f_X4_turnStorm_l49_19 x1 S_14 A_15 k_l49_19) 1))))
def f_X4_turnStorm_j16_3 (x1 : Int32) (S : Nat → Int32) (A : Nat → Nat → Int32) (w0_j16_3 : Int32) : Option (Int32 × (Nat → Int32) × (Nat → Nat → Int32)) := ((f_X4_fails S A w0_j16_3).bind fun (v_9, S_6, A_7) => (if v_9 = 0 then ((f_X4_keeps_0 S_6 A_7 ).bind fun (S_14, A_15) => (f_X4_turnStorm_l49_19 x1 S_14 A_15 4096 0 0)) else (some (0, S_6, A_7))))
def f_X4_turnStorm (S : Nat → Int32) (A : Nat → Nat → Int32) (x1 : Int32) : Option (Int32 × (Nat → Int32) × (Nat → Nat → Int32)) := (if (f_X4_in x1 0 6) = 0 then (f_X4_turnStorm_j16_3 x1 S A 1) else (f_X4_turnStorm_j16_3 x1 S A 0))
abbrev rm_X4_turnStorm : Room := { frames := 2, cells := 0, slots := 0, locals := 46 }
set_option maxHeartbeats 4000000 in
theorem ct_X4_turnStorm (Ev : rb_E) (h : AH) (n : Nat) (o : Nat) (a : Nat → Nat) (S : Nat → Int32) (A : Nat → Nat → Int32) (x1 : Int32) (rv : Int32) (rS : Nat → Int32) (rA : Nat → Nat → Int32) (hM : MD Ev h o a S A) (hf : f_X4_turnStorm S A x1 = some (rv, rS, rA)) : Ct Ev yX4_turnStorm (ws_ yX4_turnStorm cX4_turnStorm 4 (some .int)) rm_X4_turnStorm [.ref o, .int x1] h n (pM Ev .int o a h n rv rS rA) := by
  refine Ct.of rfl (Nat.le_of_ble_eq_true rfl) fun X C hnm => ?_
  have C : Cx Ev X RX4 cX4_turnStorm 4 (some .int) [] := C
  show Wa Ev X rm_X4_turnStorm 4 h n 0 0 (rb_MQ Ev X rm_X4_turnStorm (pM Ev .int o a h n rv rS rA)) 0 [(0, .ref o), (1, .int x1)] []
  have hF : mdFr h h o a := mdFr.rf
  rw [f_X4_turnStorm] at hf
  refine rb_aload_n C dX4_turnStorm_0 rfl 0 rfl ?_
  refine rb_iload_n C dX4_turnStorm_1 rfl 1 rfl ?_
  refine rb_iconst (v := 0) C dX4_turnStorm_2 rfl ?_
  refine rb_bipush (v := 6) C dX4_turnStorm_3 rfl ?_
  refine rb_zSR C mi_X4_in ss_X4_103 (ct_X4_in Ev h n x1 0 6 _ rfl) (rest := [.ref o]) rfl rfl (Nat.le_of_ble_eq_true rfl) ⟨Nat.le_of_ble_eq_true rfl, Nat.le_of_ble_eq_true rfl⟩ ⟨Nat.zero_le _, Nat.zero_le _⟩ dX4_turnStorm_5 (fun hn_1 => ?_)
  have J_j16_3 : ∀ (w0_j16_3 : Int32), f_X4_turnStorm_j16_3 x1 S A w0_j16_3 = some (rv, rS, rA) → Wa Ev X rm_X4_turnStorm 4 h n 0 0 (rb_MQ Ev X rm_X4_turnStorm (pM Ev .int o a h n rv rS rA)) 16 [(0, .ref o), (1, .int x1)] [.int w0_j16_3, .ref o] := by
    intro w0_j16_3 hf
    rw [f_X4_turnStorm_j16_3] at hf
    obtain ⟨⟨v_9, S_6, A_7⟩, e_5, hf⟩ := rb_bd hf
    refine rb_zVM C mi_X4_fails sv_X4_123 (IsC.of (Or.inl hM.1) ck_X4) (ct_X4_fails Ev h n o a S A w0_j16_3 _ _ _ hM e_5) (rest := []) rfl rfl (Nat.le_of_ble_eq_true rfl) ⟨Nat.le_of_ble_eq_true rfl, Nat.le_of_ble_eq_true rfl⟩ ⟨Nat.zero_le _, Nat.zero_le _⟩ dX4_turnStorm_16 (fun h_8 hM hF1 hn_10 => ?_)
    have hF := hF.tr hF1
    refine rb_if_eq (tgt := 24) C dX4_turnStorm_19 (by decide) (fun c_11 => ?_) (fun c_11 => ?_)
    · have hf := (if_pos c_11).symm.trans hf
      refine rb_aload_n C dX4_turnStorm_24 rfl 0 rfl ?_
      refine rb_aload_n C dX4_turnStorm_25 rfl 0 rfl ?_
      refine rb_get (v := .ref (a 0)) C fl_X4_7_X4 (Or.inl hM.1) rfl dX4_turnStorm_26 ?_
      obtain ⟨⟨S_14, A_15⟩, e_13, hf⟩ := rb_bd hf
      refine rb_zVMv C mi_X4_keeps sv_X4_134 (IsC.of (Or.inl hM.1) ck_X4) (ct_X4_keeps_0 Ev h_8 n o a S_6 A_7  _ _ hM e_13) (rest := []) rfl rfl (Nat.le_of_ble_eq_true rfl) ⟨Nat.le_of_ble_eq_true rfl, Nat.le_of_ble_eq_true rfl⟩ ⟨Nat.zero_le _, Nat.zero_le _⟩ dX4_turnStorm_29 (fun h_16 hM hF1 => ?_)
      have hF := hF.tr hF1
      refine rb_aload_n C dX4_turnStorm_32 rfl 0 rfl ?_
      refine rb_get (v := .ref (a 0)) C fl_X4_7_X4 (Or.inl hM.1) rfl dX4_turnStorm_33 ?_
      refine rb_bipush (v := 38) C dX4_turnStorm_36 rfl ?_
      refine rb_dup2_11 C dX4_turnStorm_38 rfl rfl ?_
      refine rb_iald (f := (A_15 0)) C (Or.inl (hM.2.1 0 rfl)) (rb_nN (by decide)) dX4_turnStorm_39 ?_
      refine rb_top (.int ((A_15 0) 38)) rfl ?_
      refine rb_iconst (v := 1) C dX4_turnStorm_40 rfl ?_
      refine rb_iload_n C dX4_turnStorm_41 rfl 1 rfl ?_
      refine rb_ishl C dX4_turnStorm_42 ?_
      refine rb_ixor C dX4_turnStorm_43 ?_
      refine rb_iast (f := (A_15 0)) C (hM.2.1 0 rfl) (rb_nN (by decide)) dX4_turnStorm_44 (fun h_18 e1 e2 => ?_)
      have hM : MD Ev h_18 o a S_14 (va_up A_15 0 (upd (A_15 0) 38 (((A_15 0) 38) ^^^ (1 <<< (x1 &&& 31))))) := hM.ast 0 rfl e1 e2
      have hF := hF.ast 0 rfl e2
      refine rb_iconst (v := 0) C dX4_turnStorm_45 rfl ?_
      refine rb_istore_n (lv' := [(2, .int 0), (0, .ref o), (1, .int x1)]) C dX4_turnStorm_46 rfl (by decide) rfl ?_
      refine rb_iconst (v := 0) C dX4_turnStorm_47 rfl ?_
      refine rb_istore_n (lv' := [(3, .int 0), (2, .int 0), (0, .ref o), (1, .int x1)]) C dX4_turnStorm_48 rfl (by decide) rfl ?_
      have L_l49_19 : ∀ (k_l49_19 : Nat) (y2_l49_19 : Int32) (y3_l49_19 : Int32), f_X4_turnStorm_l49_19 x1 S_14 A_15 k_l49_19 y2_l49_19 y3_l49_19 = some (rv, rS, rA) → Wa Ev X rm_X4_turnStorm 4 h_18 n 0 0 (rb_MQ Ev X rm_X4_turnStorm (pM Ev .int o a h n rv rS rA)) 49 [(0, .ref o), (1, .int x1), (2, .int y2_l49_19), (3, .int y3_l49_19)] [] := by
        intro k_l49_19
        induction k_l49_19 with
        | zero => intro y2_l49_19 y3_l49_19 hf; cases hf
        | succ k_l49_19 ih_l49_19 =>
          intro y2_l49_19 y3_l49_19 hf
          rw [f_X4_turnStorm_l49_19] at hf
          refine rb_iload_n C dX4_turnStorm_49 rfl 3 rfl ?_
          refine rb_bipush (v := 7) C dX4_turnStorm_50 rfl ?_
          refine rb_icmp_ge (tgt := 77) C dX4_turnStorm_52 (by decide) (fun c_20 => ?_) (fun c_20 => ?_)
          · have hf := (if_pos c_20).symm.trans hf
            refine rb_iload_n C dX4_turnStorm_77 rfl 2 rfl ?_
            cases hf
            exact rb_iret C rfl rfl (Nat.zero_le _) (Nat.zero_le _) dX4_turnStorm_78 ⟨rfl, rfl, hM, hF, rfl⟩
          · have hf := (if_neg c_20).symm.trans hf
            refine rb_iload_n C dX4_turnStorm_55 rfl 2 rfl ?_
            refine rb_aload_n C dX4_turnStorm_56 rfl 0 rfl ?_
            refine rb_iload_n C dX4_turnStorm_57 rfl 3 rfl ?_
            obtain ⟨v_23, e_22, hf⟩ := rb_bd hf
            refine rb_zVR C mi_X4_isRight sv_X4_147 (IsC.of (Or.inl hM.1) ck_X4) (ct_X4_isRight Ev h_18 n o a S_14 (va_up A_15 0 (upd (A_15 0) 38 (((A_15 0) 38) ^^^ (1 <<< (x1 &&& 31))))) y3_l49_19 _ hM e_22) (rest := [.int y2_l49_19]) rfl rfl (Nat.le_of_ble_eq_true rfl) ⟨Nat.le_of_ble_eq_true rfl, Nat.le_of_ble_eq_true rfl⟩ ⟨Nat.zero_le _, Nat.zero_le _⟩ dX4_turnStorm_58 (fun hn_24 => ?_)
            have J_j69_26 : ∀ (w0_j69_26 : Int32), f_X4_turnStorm_j69_26 y2_l49_19 y3_l49_19 (f_X4_turnStorm_l49_19 x1 S_14 A_15 k_l49_19) w0_j69_26 = some (rv, rS, rA) → Wa Ev X rm_X4_turnStorm 4 h_18 n 0 0 (rb_MQ Ev X rm_X4_turnStorm (pM Ev .int o a h n rv rS rA)) 69 [(0, .ref o), (1, .int x1), (2, .int y2_l49_19), (3, .int y3_l49_19)] [.int w0_j69_26, .int y2_l49_19] := by
              intro w0_j69_26 hf
              rw [f_X4_turnStorm_j69_26] at hf
              refine rb_iadd C dX4_turnStorm_69 ?_
              refine rb_istore_n (lv' := [(2, .int (y2_l49_19 + w0_j69_26)), (0, .ref o), (1, .int x1), (3, .int y3_l49_19)]) C dX4_turnStorm_70 rfl (by decide) rfl ?_
              refine rb_iinc (v := (y3_l49_19 + 1)) (lv' := [(3, .int (y3_l49_19 + 1)), (2, .int (y2_l49_19 + w0_j69_26)), (0, .ref o), (1, .int x1)]) C dX4_turnStorm_71 (k := 3) rfl rfl (by decide) rfl ?_
              refine rb_goto (tgt := 49) C dX4_turnStorm_74 (by decide) ?_
              refine rb_sub [2, 3, 1, 0] rfl ?_
              exact ih_l49_19 (y2_l49_19 + w0_j69_26) (y3_l49_19 + 1) hf
            refine rb_if_eq (tgt := 68) C dX4_turnStorm_61 (by decide) (fun c_25 => ?_) (fun c_25 => ?_)
            · have hf := (if_pos c_25).symm.trans hf
              refine rb_iconst (v := 0) C dX4_turnStorm_68 rfl ?_
              exact J_j69_26 0 hf
            · have hf := (if_neg c_25).symm.trans hf
              refine rb_iconst (v := 1) C dX4_turnStorm_64 rfl ?_
              refine rb_goto (tgt := 69) C dX4_turnStorm_65 (by decide) ?_
              exact J_j69_26 1 hf
      refine rb_sub [2, 3, 1, 0] rfl ?_
      exact L_l49_19 4096 0 0 hf
    · have hf := (if_neg c_11).symm.trans hf
      refine rb_iconst (v := 0) C dX4_turnStorm_22 rfl ?_
      cases hf
      exact rb_iret C rfl rfl (Nat.zero_le _) (Nat.zero_le _) dX4_turnStorm_23 ⟨rfl, rfl, hM, hF, rfl⟩
  refine rb_if_eq (tgt := 15) C dX4_turnStorm_8 (by decide) (fun c_2 => ?_) (fun c_2 => ?_)
  · have hf := (if_pos c_2).symm.trans hf
    refine rb_iconst (v := 1) C dX4_turnStorm_15 rfl ?_
    exact J_j16_3 1 hf
  · have hf := (if_neg c_2).symm.trans hf
    refine rb_iconst (v := 0) C dX4_turnStorm_11 rfl ?_
    refine rb_goto (tgt := 16) C dX4_turnStorm_12 (by decide) ?_
    exact J_j16_3 0 hf
def f_X4_colour_j13_3 (x1 : Int32) (S : Nat → Int32) (A : Nat → Nat → Int32) (w0_j13_3 : Int32) : Option (Int32 × (Nat → Int32) × (Nat → Nat → Int32)) := ((f_X4_fails S A w0_j13_3).bind fun (v_9, S_6, A_7) => (if v_9 = 0 then if ((25 + (f_X4_signOf x1)) < 0 ∨ 44 ≤ (25 + (f_X4_signOf x1)).toNatClampNeg) then none else (some (((A_7 0) (25 + (f_X4_signOf x1)).toNatClampNeg), S_6, A_7)) else (some (0, S_6, A_7))))
def f_X4_colour (S : Nat → Int32) (A : Nat → Nat → Int32) (x1 : Int32) : Option (Int32 × (Nat → Int32) × (Nat → Nat → Int32)) := (if 0 ≤ (f_X4_signOf x1) then (f_X4_colour_j13_3 x1 S A 0) else (f_X4_colour_j13_3 x1 S A 1))
abbrev rm_X4_colour : Room := { frames := 1, cells := 0, slots := 0, locals := 21 }
set_option maxHeartbeats 4000000 in
theorem ct_X4_colour (Ev : rb_E) (h : AH) (n : Nat) (o : Nat) (a : Nat → Nat) (S : Nat → Int32) (A : Nat → Nat → Int32) (x1 : Int32) (rv : Int32) (rS : Nat → Int32) (rA : Nat → Nat → Int32) (hM : MD Ev h o a S A) (hf : f_X4_colour S A x1 = some (rv, rS, rA)) : Ct Ev yX4_colour (ws_ yX4_colour cX4_colour 2 (some .int)) rm_X4_colour [.ref o, .int x1] h n (pM Ev .int o a h n rv rS rA) := by
  refine Ct.of rfl (Nat.le_of_ble_eq_true rfl) fun X C hnm => ?_
  have C : Cx Ev X RX4 cX4_colour 2 (some .int) [] := C
  show Wa Ev X rm_X4_colour 2 h n 0 0 (rb_MQ Ev X rm_X4_colour (pM Ev .int o a h n rv rS rA)) 0 [(0, .ref o), (1, .int x1)] []
  have hF : mdFr h h o a := mdFr.rf
  rw [f_X4_colour] at hf
  refine rb_aload_n C dX4_colour_0 rfl 0 rfl ?_
  refine rb_iload_n C dX4_colour_1 rfl 1 rfl ?_
  refine rb_zSR C mi_X4_signOf ss_X4_99 (ct_X4_signOf Ev h n x1 _ rfl) (rest := [.ref o]) rfl rfl (Nat.le_of_ble_eq_true rfl) ⟨Nat.le_of_ble_eq_true rfl, Nat.le_of_ble_eq_true rfl⟩ ⟨Nat.zero_le _, Nat.zero_le _⟩ dX4_colour_2 (fun hn_1 => ?_)
  have J_j13_3 : ∀ (w0_j13_3 : Int32), f_X4_colour_j13_3 x1 S A w0_j13_3 = some (rv, rS, rA) → Wa Ev X rm_X4_colour 2 h n 0 0 (rb_MQ Ev X rm_X4_colour (pM Ev .int o a h n rv rS rA)) 13 [(0, .ref o), (1, .int x1)] [.int w0_j13_3, .ref o] := by
    intro w0_j13_3 hf
    rw [f_X4_colour_j13_3] at hf
    obtain ⟨⟨v_9, S_6, A_7⟩, e_5, hf⟩ := rb_bd hf
    refine rb_zVM C mi_X4_fails sv_X4_123 (IsC.of (Or.inl hM.1) ck_X4) (ct_X4_fails Ev h n o a S A w0_j13_3 _ _ _ hM e_5) (rest := []) rfl rfl (Nat.le_of_ble_eq_true rfl) ⟨Nat.le_of_ble_eq_true rfl, Nat.le_of_ble_eq_true rfl⟩ ⟨Nat.zero_le _, Nat.zero_le _⟩ dX4_colour_13 (fun h_8 hM hF1 hn_10 => ?_)
    have hF := hF.tr hF1
    refine rb_if_eq (tgt := 23) C dX4_colour_16 (by decide) (fun c_11 => ?_) (fun c_11 => ?_)
    · have hf := (if_pos c_11).symm.trans hf
      refine rb_aload_n C dX4_colour_23 rfl 0 rfl ?_
      refine rb_get (v := .ref (a 0)) C fl_X4_7_X4 (Or.inl hM.1) rfl dX4_colour_24 ?_
      refine rb_bipush (v := 25) C dX4_colour_27 rfl ?_
      refine rb_iload_n C dX4_colour_29 rfl 1 rfl ?_
      refine rb_zSR C mi_X4_signOf ss_X4_99 (ct_X4_signOf Ev h_8 n x1 _ rfl) (rest := [.int 25, .ref (a 0)]) rfl rfl (Nat.le_of_ble_eq_true rfl) ⟨Nat.le_of_ble_eq_true rfl, Nat.le_of_ble_eq_true rfl⟩ ⟨Nat.zero_le _, Nat.zero_le _⟩ dX4_colour_30 (fun hn_12 => ?_)
      refine rb_iadd C dX4_colour_33 ?_
      by_cases c_g : ((25 + (f_X4_signOf x1)) < 0 ∨ 44 ≤ (25 + (f_X4_signOf x1)).toNatClampNeg)
      · exact absurd ((if_pos c_g).symm.trans hf) (fun z => by cases z)
      have hf := (if_neg c_g).symm.trans hf
      refine rb_iald (f := (A_7 0)) C (Or.inl (hM.2.1 0 rfl)) (rb_nN c_g) dX4_colour_34 ?_
      cases hf
      exact rb_iret C rfl rfl (Nat.zero_le _) (Nat.zero_le _) dX4_colour_35 ⟨rfl, rfl, hM, hF, rfl⟩
    · have hf := (if_neg c_11).symm.trans hf
      refine rb_iconst (v := 0) C dX4_colour_19 rfl ?_
      refine rb_goto (tgt := 35) C dX4_colour_20 (by decide) ?_
      cases hf
      exact rb_iret C rfl rfl (Nat.zero_le _) (Nat.zero_le _) dX4_colour_35 ⟨rfl, rfl, hM, hF, rfl⟩
  refine rb_if_ge (tgt := 12) C dX4_colour_5 (by decide) (fun c_2 => ?_) (fun c_2 => ?_)
  · have hf := (if_pos c_2).symm.trans hf
    refine rb_iconst (v := 0) C dX4_colour_12 rfl ?_
    exact J_j13_3 0 hf
  · have hf := (if_neg c_2).symm.trans hf
    refine rb_iconst (v := 1) C dX4_colour_8 rfl ?_
    refine rb_goto (tgt := 13) C dX4_colour_9 (by decide) ?_
    exact J_j13_3 1 hf
def f_X4_meaning_j13_3 (x1 : Int32) (S : Nat → Int32) (A : Nat → Nat → Int32) (w0_j13_3 : Int32) : Option (Int32 × (Nat → Int32) × (Nat → Nat → Int32)) := ((f_X4_fails S A w0_j13_3).bind fun (v_9, S_6, A_7) => (if v_9 = 0 then if ((32 + (f_X4_signOf x1)) < 0 ∨ 44 ≤ (32 + (f_X4_signOf x1)).toNatClampNeg) then none else (some ((((A_7 0) (32 + (f_X4_signOf x1)).toNatClampNeg).toUInt32 % 65536).toInt32, S_6, A_7)) else (some (32, S_6, A_7))))
def f_X4_meaning (S : Nat → Int32) (A : Nat → Nat → Int32) (x1 : Int32) : Option (Int32 × (Nat → Int32) × (Nat → Nat → Int32)) := (if (f_X4_isOperator x1) = 0 then (f_X4_meaning_j13_3 x1 S A 1) else (f_X4_meaning_j13_3 x1 S A 0))
abbrev rm_X4_meaning : Room := { frames := 2, cells := 0, slots := 0, locals := 42 }
set_option maxHeartbeats 4000000 in
theorem ct_X4_meaning (Ev : rb_E) (h : AH) (n : Nat) (o : Nat) (a : Nat → Nat) (S : Nat → Int32) (A : Nat → Nat → Int32) (x1 : Int32) (rv : Int32) (rS : Nat → Int32) (rA : Nat → Nat → Int32) (hM : MD Ev h o a S A) (hf : f_X4_meaning S A x1 = some (rv, rS, rA)) : Ct Ev yX4_meaning (ws_ yX4_meaning cX4_meaning 2 (some .char)) rm_X4_meaning [.ref o, .int x1] h n (pM Ev .char o a h n rv rS rA) := by
  refine Ct.of rfl (Nat.le_of_ble_eq_true rfl) fun X C hnm => ?_
  have C : Cx Ev X RX4 cX4_meaning 2 (some .char) [] := C
  show Wa Ev X rm_X4_meaning 2 h n 0 0 (rb_MQ Ev X rm_X4_meaning (pM Ev .char o a h n rv rS rA)) 0 [(0, .ref o), (1, .int x1)] []
  have hF : mdFr h h o a := mdFr.rf
  rw [f_X4_meaning] at hf
  refine rb_aload_n C dX4_meaning_0 rfl 0 rfl ?_
  refine rb_iload_n C dX4_meaning_1 rfl 1 rfl ?_
  refine rb_zSR C mi_X4_isOperator ss_X4_138 (ct_X4_isOperator Ev h n x1 _ rfl) (rest := [.ref o]) rfl rfl (Nat.le_of_ble_eq_true rfl) ⟨Nat.le_of_ble_eq_true rfl, Nat.le_of_ble_eq_true rfl⟩ ⟨Nat.zero_le _, Nat.zero_le _⟩ dX4_meaning_2 (fun hn_1 => ?_)
  have J_j13_3 : ∀ (w0_j13_3 : Int32), f_X4_meaning_j13_3 x1 S A w0_j13_3 = some (rv, rS, rA) → Wa Ev X rm_X4_meaning 2 h n 0 0 (rb_MQ Ev X rm_X4_meaning (pM Ev .char o a h n rv rS rA)) 13 [(0, .ref o), (1, .int x1)] [.int w0_j13_3, .ref o] := by
    intro w0_j13_3 hf
    rw [f_X4_meaning_j13_3] at hf
    obtain ⟨⟨v_9, S_6, A_7⟩, e_5, hf⟩ := rb_bd hf
    refine rb_zVM C mi_X4_fails sv_X4_123 (IsC.of (Or.inl hM.1) ck_X4) (ct_X4_fails Ev h n o a S A w0_j13_3 _ _ _ hM e_5) (rest := []) rfl rfl (Nat.le_of_ble_eq_true rfl) ⟨Nat.le_of_ble_eq_true rfl, Nat.le_of_ble_eq_true rfl⟩ ⟨Nat.zero_le _, Nat.zero_le _⟩ dX4_meaning_13 (fun h_8 hM hF1 hn_10 => ?_)
    have hF := hF.tr hF1
    refine rb_if_eq (tgt := 24) C dX4_meaning_16 (by decide) (fun c_11 => ?_) (fun c_11 => ?_)
    · have hf := (if_pos c_11).symm.trans hf
      refine rb_aload_n C dX4_meaning_24 rfl 0 rfl ?_
      refine rb_get (v := .ref (a 0)) C fl_X4_7_X4 (Or.inl hM.1) rfl dX4_meaning_25 ?_
      refine rb_bipush (v := 32) C dX4_meaning_28 rfl ?_
      refine rb_iload_n C dX4_meaning_30 rfl 1 rfl ?_
      refine rb_zSR C mi_X4_signOf ss_X4_99 (ct_X4_signOf Ev h_8 n x1 _ rfl) (rest := [.int 32, .ref (a 0)]) rfl rfl (Nat.le_of_ble_eq_true rfl) ⟨Nat.le_of_ble_eq_true rfl, Nat.le_of_ble_eq_true rfl⟩ ⟨Nat.zero_le _, Nat.zero_le _⟩ dX4_meaning_31 (fun hn_12 => ?_)
      refine rb_iadd C dX4_meaning_34 ?_
      by_cases c_g : ((32 + (f_X4_signOf x1)) < 0 ∨ 44 ≤ (32 + (f_X4_signOf x1)).toNatClampNeg)
      · exact absurd ((if_pos c_g).symm.trans hf) (fun z => by cases z)
      have hf := (if_neg c_g).symm.trans hf
      refine rb_iald (f := (A_7 0)) C (Or.inl (hM.2.1 0 rfl)) (rb_nN c_g) dX4_meaning_35 ?_
      refine rb_i2c C dX4_meaning_36 rfl ?_
      have hc_13 : narrow .char (.int (((A_7 0) (32 + (f_X4_signOf x1)).toNatClampNeg).toUInt32 % 65536).toInt32) = .int (((A_7 0) (32 + (f_X4_signOf x1)).toNatClampNeg).toUInt32 % 65536).toInt32 := pk_nc ((A_7 0) (32 + (f_X4_signOf x1)).toNatClampNeg)
      cases hf
      exact rb_iret C rfl hc_13 (Nat.zero_le _) (Nat.zero_le _) dX4_meaning_37 ⟨rfl, rfl, hM, hF, hc_13⟩
    · have hf := (if_neg c_11).symm.trans hf
      refine rb_bipush (v := 32) C dX4_meaning_19 rfl ?_
      refine rb_goto (tgt := 37) C dX4_meaning_21 (by decide) ?_
      cases hf
      exact rb_iret C rfl rfl (Nat.zero_le _) (Nat.zero_le _) dX4_meaning_37 ⟨rfl, rfl, hM, hF, rfl⟩
  refine rb_if_eq (tgt := 12) C dX4_meaning_5 (by decide) (fun c_2 => ?_) (fun c_2 => ?_)
  · have hf := (if_pos c_2).symm.trans hf
    refine rb_iconst (v := 1) C dX4_meaning_12 rfl ?_
    exact J_j13_3 1 hf
  · have hf := (if_neg c_2).symm.trans hf
    refine rb_iconst (v := 0) C dX4_meaning_8 rfl ?_
    refine rb_goto (tgt := 13) C dX4_meaning_9 (by decide) ?_
    exact J_j13_3 0 hf
def f_X4_isToTheRight_j16_3 (x1 : Int32) (S : Nat → Int32) (A : Nat → Nat → Int32) (w0_j16_3 : Int32) : Option (Int32 × (Nat → Int32) × (Nat → Nat → Int32)) := ((f_X4_fails S A w0_j16_3).bind fun (v_9, S_6, A_7) => (if v_9 = 0 then ((f_X4_isRight S_6 A_7 x1).bind fun v_14 => (if v_14 = 0 then (some (0, S_6, A_7)) else (some (1, S_6, A_7)))) else (some (0, S_6, A_7))))
def f_X4_isToTheRight (S : Nat → Int32) (A : Nat → Nat → Int32) (x1 : Int32) : Option (Int32 × (Nat → Int32) × (Nat → Nat → Int32)) := (if (f_X4_in x1 0 6) = 0 then (f_X4_isToTheRight_j16_3 x1 S A 1) else (f_X4_isToTheRight_j16_3 x1 S A 0))
abbrev rm_X4_isToTheRight : Room := { frames := 1, cells := 0, slots := 0, locals := 22 }
set_option maxHeartbeats 4000000 in
theorem ct_X4_isToTheRight (Ev : rb_E) (h : AH) (n : Nat) (o : Nat) (a : Nat → Nat) (S : Nat → Int32) (A : Nat → Nat → Int32) (x1 : Int32) (rv : Int32) (rS : Nat → Int32) (rA : Nat → Nat → Int32) (hM : MD Ev h o a S A) (hf : f_X4_isToTheRight S A x1 = some (rv, rS, rA)) : Ct Ev yX4_isToTheRight (ws_ yX4_isToTheRight cX4_isToTheRight 2 (some .boolean)) rm_X4_isToTheRight [.ref o, .int x1] h n (pM Ev .boolean o a h n rv rS rA) := by
  refine Ct.of rfl (Nat.le_of_ble_eq_true rfl) fun X C hnm => ?_
  have C : Cx Ev X RX4 cX4_isToTheRight 2 (some .boolean) [] := C
  show Wa Ev X rm_X4_isToTheRight 2 h n 0 0 (rb_MQ Ev X rm_X4_isToTheRight (pM Ev .boolean o a h n rv rS rA)) 0 [(0, .ref o), (1, .int x1)] []
  have hF : mdFr h h o a := mdFr.rf
  rw [f_X4_isToTheRight] at hf
  refine rb_aload_n C dX4_isToTheRight_0 rfl 0 rfl ?_
  refine rb_iload_n C dX4_isToTheRight_1 rfl 1 rfl ?_
  refine rb_iconst (v := 0) C dX4_isToTheRight_2 rfl ?_
  refine rb_bipush (v := 6) C dX4_isToTheRight_3 rfl ?_
  refine rb_zSR C mi_X4_in ss_X4_103 (ct_X4_in Ev h n x1 0 6 _ rfl) (rest := [.ref o]) rfl rfl (Nat.le_of_ble_eq_true rfl) ⟨Nat.le_of_ble_eq_true rfl, Nat.le_of_ble_eq_true rfl⟩ ⟨Nat.zero_le _, Nat.zero_le _⟩ dX4_isToTheRight_5 (fun hn_1 => ?_)
  have J_j16_3 : ∀ (w0_j16_3 : Int32), f_X4_isToTheRight_j16_3 x1 S A w0_j16_3 = some (rv, rS, rA) → Wa Ev X rm_X4_isToTheRight 2 h n 0 0 (rb_MQ Ev X rm_X4_isToTheRight (pM Ev .boolean o a h n rv rS rA)) 16 [(0, .ref o), (1, .int x1)] [.int w0_j16_3, .ref o] := by
    intro w0_j16_3 hf
    rw [f_X4_isToTheRight_j16_3] at hf
    obtain ⟨⟨v_9, S_6, A_7⟩, e_5, hf⟩ := rb_bd hf
    refine rb_zVM C mi_X4_fails sv_X4_123 (IsC.of (Or.inl hM.1) ck_X4) (ct_X4_fails Ev h n o a S A w0_j16_3 _ _ _ hM e_5) (rest := []) rfl rfl (Nat.le_of_ble_eq_true rfl) ⟨Nat.le_of_ble_eq_true rfl, Nat.le_of_ble_eq_true rfl⟩ ⟨Nat.zero_le _, Nat.zero_le _⟩ dX4_isToTheRight_16 (fun h_8 hM hF1 hn_10 => ?_)
    have hF := hF.tr hF1
    refine rb_if_ne (tgt := 34) C dX4_isToTheRight_19 (by decide) (fun c_11 => ?_) (fun c_11 => ?_)
    · have hf := (if_neg c_11).symm.trans hf
      refine rb_iconst (v := 0) C dX4_isToTheRight_34 rfl ?_
      cases hf
      exact rb_iret C rfl rfl (Nat.zero_le _) (Nat.zero_le _) dX4_isToTheRight_35 ⟨rfl, rfl, hM, hF, rfl⟩
    · have hf := (if_pos c_11).symm.trans hf
      refine rb_aload_n C dX4_isToTheRight_22 rfl 0 rfl ?_
      refine rb_iload_n C dX4_isToTheRight_23 rfl 1 rfl ?_
      obtain ⟨v_14, e_13, hf⟩ := rb_bd hf
      refine rb_zVR C mi_X4_isRight sv_X4_147 (IsC.of (Or.inl hM.1) ck_X4) (ct_X4_isRight Ev h_8 n o a S_6 A_7 x1 _ hM e_13) (rest := []) rfl rfl (Nat.le_of_ble_eq_true rfl) ⟨Nat.le_of_ble_eq_true rfl, Nat.le_of_ble_eq_true rfl⟩ ⟨Nat.zero_le _, Nat.zero_le _⟩ dX4_isToTheRight_24 (fun hn_15 => ?_)
      refine rb_if_eq (tgt := 34) C dX4_isToTheRight_27 (by decide) (fun c_16 => ?_) (fun c_16 => ?_)
      · have hf := (if_pos c_16).symm.trans hf
        refine rb_iconst (v := 0) C dX4_isToTheRight_34 rfl ?_
        cases hf
        exact rb_iret C rfl rfl (Nat.zero_le _) (Nat.zero_le _) dX4_isToTheRight_35 ⟨rfl, rfl, hM, hF, rfl⟩
      · have hf := (if_neg c_16).symm.trans hf
        refine rb_iconst (v := 1) C dX4_isToTheRight_30 rfl ?_
        refine rb_goto (tgt := 35) C dX4_isToTheRight_31 (by decide) ?_
        cases hf
        exact rb_iret C rfl rfl (Nat.zero_le _) (Nat.zero_le _) dX4_isToTheRight_35 ⟨rfl, rfl, hM, hF, rfl⟩
  refine rb_if_eq (tgt := 15) C dX4_isToTheRight_8 (by decide) (fun c_2 => ?_) (fun c_2 => ?_)
  · have hf := (if_pos c_2).symm.trans hf
    refine rb_iconst (v := 1) C dX4_isToTheRight_15 rfl ?_
    exact J_j16_3 1 hf
  · have hf := (if_neg c_2).symm.trans hf
    refine rb_iconst (v := 0) C dX4_isToTheRight_11 rfl ?_
    refine rb_goto (tgt := 16) C dX4_isToTheRight_12 (by decide) ?_
    exact J_j16_3 0 hf
def f_X4_operator (x0 : Int32) : Int32 := (if x0 = 0 then 43 else (if x0 = 1 then 45 else (if x0 = 2 then 42 else (if x0 = 3 then 37 else (if x0 = 4 then 94 else 38)))))
abbrev rm_X4_operator : Room := { frames := 0, cells := 0, slots := 0, locals := 0 }
set_option maxHeartbeats 4000000 in
theorem ct_X4_operator (Ev : rb_E) (h : AH) (n : Nat) (x0 : Int32) (rv : Int32) (hf : f_X4_operator x0 = rv) : Ct Ev yX4_operator (ws_ yX4_operator cX4_operator 1 (some .char)) rm_X4_operator [.int x0] h n (pR .char rv h n) := by
  refine Ct.of rfl (Nat.le_of_ble_eq_true rfl) fun X C hnm => ?_
  have C : Cx Ev X RX4 cX4_operator 1 (some .char) [] := C
  show Wa Ev X rm_X4_operator 1 h n 0 0 (rb_MQ Ev X rm_X4_operator (pR .char rv h n)) 0 [(0, .int x0)] []
  rw [f_X4_operator] at hf
  refine rb_iload_n C dX4_operator_0 rfl 0 rfl ?_
  by_cases c_1 : x0 = 0
  · have hf := (if_pos c_1).symm.trans hf
    refine rb_top (.int 0) (by rw [c_1]) ?_
    refine rb_tableIn (tgt := 36) C dX4_operator_1 (by decide) (by decide) (off := 35) (by decide) (by decide) ?_
    refine rb_bipush (v := 43) C dX4_operator_36 rfl ?_
    subst hf
    exact rb_iret C rfl rfl (Nat.zero_le _) (Nat.zero_le _) dX4_operator_38 ⟨rfl, rfl, rfl, rfl⟩
  have hf := (if_neg c_1).symm.trans hf
  by_cases c_2 : x0 = 1
  · have hf := (if_pos c_2).symm.trans hf
    refine rb_top (.int 1) (by rw [c_2]) ?_
    refine rb_tableIn (tgt := 39) C dX4_operator_1 (by decide) (by decide) (off := 38) (by decide) (by decide) ?_
    refine rb_bipush (v := 45) C dX4_operator_39 rfl ?_
    subst hf
    exact rb_iret C rfl rfl (Nat.zero_le _) (Nat.zero_le _) dX4_operator_41 ⟨rfl, rfl, rfl, rfl⟩
  have hf := (if_neg c_2).symm.trans hf
  by_cases c_3 : x0 = 2
  · have hf := (if_pos c_3).symm.trans hf
    refine rb_top (.int 2) (by rw [c_3]) ?_
    refine rb_tableIn (tgt := 42) C dX4_operator_1 (by decide) (by decide) (off := 41) (by decide) (by decide) ?_
    refine rb_bipush (v := 42) C dX4_operator_42 rfl ?_
    subst hf
    exact rb_iret C rfl rfl (Nat.zero_le _) (Nat.zero_le _) dX4_operator_44 ⟨rfl, rfl, rfl, rfl⟩
  have hf := (if_neg c_3).symm.trans hf
  by_cases c_4 : x0 = 3
  · have hf := (if_pos c_4).symm.trans hf
    refine rb_top (.int 3) (by rw [c_4]) ?_
    refine rb_tableIn (tgt := 45) C dX4_operator_1 (by decide) (by decide) (off := 44) (by decide) (by decide) ?_
    refine rb_bipush (v := 37) C dX4_operator_45 rfl ?_
    subst hf
    exact rb_iret C rfl rfl (Nat.zero_le _) (Nat.zero_le _) dX4_operator_47 ⟨rfl, rfl, rfl, rfl⟩
  have hf := (if_neg c_4).symm.trans hf
  by_cases c_5 : x0 = 4
  · have hf := (if_pos c_5).symm.trans hf
    refine rb_top (.int 4) (by rw [c_5]) ?_
    refine rb_tableIn (tgt := 48) C dX4_operator_1 (by decide) (by decide) (off := 47) (by decide) (by decide) ?_
    refine rb_bipush (v := 94) C dX4_operator_48 rfl ?_
    subst hf
    exact rb_iret C rfl rfl (Nat.zero_le _) (Nat.zero_le _) dX4_operator_50 ⟨rfl, rfl, rfl, rfl⟩
  have hf := (if_neg c_5).symm.trans hf
  refine rb_tableOut (tgt := 51) C dX4_operator_1 (by have z0 := lv_neT (k := 0) (a := 0) c_1 (by decide); have z1 := lv_neT (k := 1) (a := 1) c_2 (by decide); have z2 := lv_neT (k := 2) (a := 2) c_3 (by decide); have z3 := lv_neT (k := 3) (a := 3) c_4 (by decide); have z4 := lv_neT (k := 4) (a := 4) c_5 (by decide); omega) (by decide) ?_
  refine rb_bipush (v := 38) C dX4_operator_51 rfl ?_
  subst hf
  exact rb_iret C rfl rfl (Nat.zero_le _) (Nat.zero_le _) dX4_operator_53 ⟨rfl, rfl, rfl, rfl⟩
def f_X4_operatorByColour_j76_10 (y3_l13_4 : Int32) (y4_l13_4 : Int32) (rec_l13_4 : Int32 → Int32 → Option (Int32 × (Nat → Int32) × (Nat → Nat → Int32))) (w0_j76_10 : Int32) : Option (Int32 × (Nat → Int32) × (Nat → Nat → Int32)) := (rec_l13_4 (y3_l13_4 + w0_j76_10) (y4_l13_4 + 1))
def f_X4_operatorByColour_l13_4 (x1 : Int32) (y2_l2_1 : Int32) (S_l2_1 : Nat → Int32) (A_l2_1 : Nat → Nat → Int32) (rec_l2_1 : Int32 → (Nat → Int32) → (Nat → Nat → Int32) → Option (Int32 × (Nat → Int32) × (Nat → Nat → Int32))) : Nat → Int32 → Int32 → Option (Int32 × (Nat → Int32) × (Nat → Nat → Int32))
  | 0, _, _ => none
  | k_l13_4 + 1, y3_l13_4, y4_l13_4 => (if 6 ≤ y4_l13_4 then (if y3_l13_4 = x1 then (some ((f_X4_operator y2_l2_1), (upd S_l2_1 8 0), A_l2_1)) else (rec_l2_1 (y2_l2_1 + 1) S_l2_1 A_l2_1)) else if ((25 + y4_l13_4) < 0 ∨ 44 ≤ (25 + y4_l13_4).toNatClampNeg) then none else if ((25 + y2_l2_1) < 0 ∨ 44 ≤ (25 + y2_l2_1).toNatClampNeg) then none else (if ((A_l2_1 0) (25 + y2_l2_1).toNatClampNeg) < ((A_l2_1 0) (25 + y4_l13_4).toNatClampNeg) then (f_X4_operatorByColour_j76_10 y3_l13_4 y4_l13_4 (f_X4_operatorByColour_l13_4 x1 y2_l2_1 S_l2_1 A_l2_1 rec_l2_1 k_l13_4) 1) else if ((25 + y4_l13_4) < 0 ∨ 44 ≤ (25 + y4_l13_4).toNatClampNeg) then none else if ((25 + y2_l2_1) < 0 ∨ 44 ≤ (25 + y2_l2_1).toNatClampNeg) then none else (if ((A_l2_1 0) (25 + y4_l13_4).toNatClampNeg) = ((A_l2_1 0) (25 + y2_l2_1).toNatClampNeg) then (if y2_l2_1 ≤ y4_l13_4 then (f_X4_operatorByColour_j76_10 y3_l13_4 y4_l13_4 (f_X4_operatorByColour_l13_4 x1 y2_l2_1 S_l2_1 A_l2_1 rec_l2_1 k_l13_4) 0) else (f_X4_operatorByColour_j76_10 y3_l13_4 y4_l13_4 (f_X4_operatorByColour_l13_4 x1 y2_l2_1 S_l2_1 A_l2_1 rec_l2_1 k_l13_4) 1)) else (f_X4_operatorByColour_j76_10 y3_l13_4 y4_l13_4 (f_X4_operatorByColour_l13_4 x1 y2_l2_1 S_l2_1 A_l2_1 rec_l2_1 k_l13_4) 0))))
def f_X4_operatorByColour_l2_1 (x1 : Int32) : Nat → Int32 → (Nat → Int32) → (Nat → Nat → Int32) → Option (Int32 × (Nat → Int32) × (Nat → Nat → Int32))
  | 0, _, _, _ => none
  | k_l2_1 + 1, y2_l2_1, S_l2_1, A_l2_1 => (if 6 ≤ y2_l2_1 then (some (32, (upd S_l2_1 8 1), A_l2_1)) else (f_X4_operatorByColour_l13_4 x1 y2_l2_1 S_l2_1 A_l2_1 (f_X4_operatorByColour_l2_1 x1 k_l2_1) 4096 0 0))
def f_X4_operatorByColour (S : Nat → Int32) (A : Nat → Nat → Int32) (x1 : Int32) : Option (Int32 × (Nat → Int32) × (Nat → Nat → Int32)) := (f_X4_operatorByColour_l2_1 x1 4096 0 S A)
abbrev rm_X4_operatorByColour : Room := { frames := 1, cells := 0, slots := 0, locals := 20 }
set_option maxHeartbeats 4000000 in
theorem ct_X4_operatorByColour (Ev : rb_E) (h : AH) (n : Nat) (o : Nat) (a : Nat → Nat) (S : Nat → Int32) (A : Nat → Nat → Int32) (x1 : Int32) (rv : Int32) (rS : Nat → Int32) (rA : Nat → Nat → Int32) (hM : MD Ev h o a S A) (hf : f_X4_operatorByColour S A x1 = some (rv, rS, rA)) : Ct Ev yX4_operatorByColour (ws_ yX4_operatorByColour cX4_operatorByColour 5 (some .char)) rm_X4_operatorByColour [.ref o, .int x1] h n (pM Ev .char o a h n rv rS rA) := by
  refine Ct.of rfl (Nat.le_of_ble_eq_true rfl) fun X C hnm => ?_
  have C : Cx Ev X RX4 cX4_operatorByColour 5 (some .char) [] := C
  show Wa Ev X rm_X4_operatorByColour 5 h n 0 0 (rb_MQ Ev X rm_X4_operatorByColour (pM Ev .char o a h n rv rS rA)) 0 [(0, .ref o), (1, .int x1)] []
  have hF : mdFr h h o a := mdFr.rf
  rw [f_X4_operatorByColour] at hf
  refine rb_iconst (v := 0) C dX4_operatorByColour_0 rfl ?_
  refine rb_istore_n (lv' := [(2, .int 0), (0, .ref o), (1, .int x1)]) C dX4_operatorByColour_1 rfl (by decide) rfl ?_
  have L_l2_1 : ∀ (k_l2_1 : Nat) (y2_l2_1 : Int32) (S_l2_1 : Nat → Int32) (A_l2_1 : Nat → Nat → Int32) (h_l2_1 : AH), MD Ev h_l2_1 o a S_l2_1 A_l2_1 → mdFr h h_l2_1 o a → f_X4_operatorByColour_l2_1 x1 k_l2_1 y2_l2_1 S_l2_1 A_l2_1 = some (rv, rS, rA) → Wa Ev X rm_X4_operatorByColour 5 h_l2_1 n 0 0 (rb_MQ Ev X rm_X4_operatorByColour (pM Ev .char o a h n rv rS rA)) 2 [(0, .ref o), (1, .int x1), (2, .int y2_l2_1)] [] := by
    intro k_l2_1
    induction k_l2_1 with
    | zero => intro y2_l2_1 S_l2_1 A_l2_1 h_l2_1 hM hF hf; cases hf
    | succ k_l2_1 ih_l2_1 =>
      intro y2_l2_1 S_l2_1 A_l2_1 h_l2_1 hM hF hf
      rw [f_X4_operatorByColour_l2_1] at hf
      refine rb_iload_n C dX4_operatorByColour_2 rfl 2 rfl ?_
      refine rb_bipush (v := 6) C dX4_operatorByColour_3 rfl ?_
      refine rb_icmp_ge (tgt := 108) C dX4_operatorByColour_5 (by decide) (fun c_2 => ?_) (fun c_2 => ?_)
      · have hf := (if_pos c_2).symm.trans hf
        refine rb_aload_n C dX4_operatorByColour_108 rfl 0 rfl ?_
        refine rb_iconst (v := 1) C dX4_operatorByColour_109 rfl ?_
        refine rb_put (v := .int 1) C fw_X4_73_X4 hM.1 rfl rfl (Nat.le_of_ble_eq_true rfl) dX4_operatorByColour_110 (fun h_3 e1 e2 => ?_)
        have hM : MD Ev h_3 o a (upd S_l2_1 8 1) A_l2_1 := hM.put e1 e2 rfl
        have hF := hF.put e2
        refine rb_bipush (v := 32) C dX4_operatorByColour_113 rfl ?_
        cases hf
        exact rb_iret C rfl rfl (Nat.zero_le _) (Nat.zero_le _) dX4_operatorByColour_115 ⟨rfl, rfl, hM, hF, rfl⟩
      · have hf := (if_neg c_2).symm.trans hf
        refine rb_iconst (v := 0) C dX4_operatorByColour_8 rfl ?_
        refine rb_istore_n (lv' := [(3, .int 0), (0, .ref o), (1, .int x1), (2, .int y2_l2_1)]) C dX4_operatorByColour_9 rfl (by decide) rfl ?_
        refine rb_iconst (v := 0) C dX4_operatorByColour_10 rfl ?_
        refine rb_istore (lv' := [(4, .int 0), (3, .int 0), (0, .ref o), (1, .int x1), (2, .int y2_l2_1)]) C dX4_operatorByColour_11 (by decide) rfl ?_
        have L_l13_4 : ∀ (k_l13_4 : Nat) (y3_l13_4 : Int32) (y4_l13_4 : Int32), f_X4_operatorByColour_l13_4 x1 y2_l2_1 S_l2_1 A_l2_1 (f_X4_operatorByColour_l2_1 x1 k_l2_1) k_l13_4 y3_l13_4 y4_l13_4 = some (rv, rS, rA) → Wa Ev X rm_X4_operatorByColour 5 h_l2_1 n 0 0 (rb_MQ Ev X rm_X4_operatorByColour (pM Ev .char o a h n rv rS rA)) 13 [(0, .ref o), (1, .int x1), (2, .int y2_l2_1), (3, .int y3_l13_4), (4, .int y4_l13_4)] [] := by
          intro k_l13_4
          induction k_l13_4 with
          | zero => intro y3_l13_4 y4_l13_4 hf; cases hf
          | succ k_l13_4 ih_l13_4 =>
            intro y3_l13_4 y4_l13_4 hf
            rw [f_X4_operatorByColour_l13_4] at hf
            refine rb_iload C dX4_operatorByColour_13 4 rfl ?_
            refine rb_bipush (v := 6) C dX4_operatorByColour_15 rfl ?_
            refine rb_icmp_ge (tgt := 84) C dX4_operatorByColour_17 (by decide) (fun c_5 => ?_) (fun c_5 => ?_)
            · have hf := (if_pos c_5).symm.trans hf
              refine rb_iload_n C dX4_operatorByColour_84 rfl 3 rfl ?_
              refine rb_iload_n C dX4_operatorByColour_85 rfl 1 rfl ?_
              refine rb_icmp_eq (tgt := 92) C dX4_operatorByColour_86 (by decide) (fun c_6 => ?_) (fun c_6 => ?_)
              · have hf := (if_pos c_6).symm.trans hf
                refine rb_aload_n C dX4_operatorByColour_92 rfl 0 rfl ?_
                refine rb_iconst (v := 0) C dX4_operatorByColour_93 rfl ?_
                refine rb_put (v := .int 0) C fw_X4_73_X4 hM.1 rfl rfl (Nat.le_of_ble_eq_true rfl) dX4_operatorByColour_94 (fun h_7 e1 e2 => ?_)
                have hM : MD Ev h_7 o a (upd S_l2_1 8 0) A_l2_1 := hM.put e1 e2 rfl
                have hF := hF.put e2
                refine rb_iload_n C dX4_operatorByColour_97 rfl 2 rfl ?_
                refine rb_zSR C mi_X4_operator ss_X4_150 (ct_X4_operator Ev h_7 n y2_l2_1 _ rfl) (rest := []) rfl rfl (Nat.le_of_ble_eq_true rfl) ⟨Nat.le_of_ble_eq_true rfl, Nat.le_of_ble_eq_true rfl⟩ ⟨Nat.zero_le _, Nat.zero_le _⟩ dX4_operatorByColour_98 (fun hn_8 => ?_)
                cases hf
                exact rb_iret C rfl hn_8 (Nat.zero_le _) (Nat.zero_le _) dX4_operatorByColour_101 ⟨rfl, rfl, hM, hF, hn_8⟩
              · have hf := (if_neg c_6).symm.trans hf
                refine rb_goto (tgt := 102) C dX4_operatorByColour_89 (by decide) ?_
                refine rb_iinc (v := (y2_l2_1 + 1)) (lv' := [(2, .int (y2_l2_1 + 1)), (0, .ref o), (1, .int x1), (3, .int y3_l13_4), (4, .int y4_l13_4)]) C dX4_operatorByColour_102 (k := 2) rfl rfl (by decide) rfl ?_
                refine rb_goto (tgt := 2) C dX4_operatorByColour_105 (by decide) ?_
                refine rb_sub [1, 2, 0] rfl ?_
                exact ih_l2_1 (y2_l2_1 + 1) S_l2_1 A_l2_1 h_l2_1 hM hF hf
            · have hf := (if_neg c_5).symm.trans hf
              refine rb_iload_n C dX4_operatorByColour_20 rfl 3 rfl ?_
              refine rb_aload_n C dX4_operatorByColour_21 rfl 0 rfl ?_
              refine rb_get (v := .ref (a 0)) C fl_X4_7_X4 (Or.inl hM.1) rfl dX4_operatorByColour_22 ?_
              refine rb_bipush (v := 25) C dX4_operatorByColour_25 rfl ?_
              refine rb_iload C dX4_operatorByColour_27 4 rfl ?_
              refine rb_iadd C dX4_operatorByColour_29 ?_
              by_cases c_g : ((25 + y4_l13_4) < 0 ∨ 44 ≤ (25 + y4_l13_4).toNatClampNeg)
              · exact absurd ((if_pos c_g).symm.trans hf) (fun z => by cases z)
              have hf := (if_neg c_g).symm.trans hf
              refine rb_iald (f := (A_l2_1 0)) C (Or.inl (hM.2.1 0 rfl)) (rb_nN c_g) dX4_operatorByColour_30 ?_
              refine rb_aload_n C dX4_operatorByColour_31 rfl 0 rfl ?_
              refine rb_get (v := .ref (a 0)) C fl_X4_7_X4 (Or.inl hM.1) rfl dX4_operatorByColour_32 ?_
              refine rb_bipush (v := 25) C dX4_operatorByColour_35 rfl ?_
              refine rb_iload_n C dX4_operatorByColour_37 rfl 2 rfl ?_
              refine rb_iadd C dX4_operatorByColour_38 ?_
              by_cases c_g : ((25 + y2_l2_1) < 0 ∨ 44 ≤ (25 + y2_l2_1).toNatClampNeg)
              · exact absurd ((if_pos c_g).symm.trans hf) (fun z => by cases z)
              have hf := (if_neg c_g).symm.trans hf
              refine rb_iald (f := (A_l2_1 0)) C (Or.inl (hM.2.1 0 rfl)) (rb_nN c_g) dX4_operatorByColour_39 ?_
              have J_j76_10 : ∀ (w0_j76_10 : Int32), f_X4_operatorByColour_j76_10 y3_l13_4 y4_l13_4 (f_X4_operatorByColour_l13_4 x1 y2_l2_1 S_l2_1 A_l2_1 (f_X4_operatorByColour_l2_1 x1 k_l2_1) k_l13_4) w0_j76_10 = some (rv, rS, rA) → Wa Ev X rm_X4_operatorByColour 5 h_l2_1 n 0 0 (rb_MQ Ev X rm_X4_operatorByColour (pM Ev .char o a h n rv rS rA)) 76 [(0, .ref o), (1, .int x1), (2, .int y2_l2_1), (3, .int y3_l13_4), (4, .int y4_l13_4)] [.int w0_j76_10, .int y3_l13_4] := by
                intro w0_j76_10 hf
                rw [f_X4_operatorByColour_j76_10] at hf
                refine rb_iadd C dX4_operatorByColour_76 ?_
                refine rb_istore_n (lv' := [(3, .int (y3_l13_4 + w0_j76_10)), (0, .ref o), (1, .int x1), (2, .int y2_l2_1), (4, .int y4_l13_4)]) C dX4_operatorByColour_77 rfl (by decide) rfl ?_
                refine rb_iinc (v := (y4_l13_4 + 1)) (lv' := [(4, .int (y4_l13_4 + 1)), (3, .int (y3_l13_4 + w0_j76_10)), (0, .ref o), (1, .int x1), (2, .int y2_l2_1)]) C dX4_operatorByColour_78 (k := 4) rfl rfl (by decide) rfl ?_
                refine rb_goto (tgt := 13) C dX4_operatorByColour_81 (by decide) ?_
                refine rb_sub [2, 3, 4, 1, 0] rfl ?_
                exact ih_l13_4 (y3_l13_4 + w0_j76_10) (y4_l13_4 + 1) hf
              refine rb_icmp_gt (tgt := 71) C dX4_operatorByColour_40 (by decide) (fun c_9 => ?_) (fun c_9 => ?_)
              · have hf := (if_pos c_9).symm.trans hf
                refine rb_iconst (v := 1) C dX4_operatorByColour_71 rfl ?_
                refine rb_goto (tgt := 76) C dX4_operatorByColour_72 (by decide) ?_
                exact J_j76_10 1 hf
              · have hf := (if_neg c_9).symm.trans hf
                refine rb_aload_n C dX4_operatorByColour_43 rfl 0 rfl ?_
                refine rb_get (v := .ref (a 0)) C fl_X4_7_X4 (Or.inl hM.1) rfl dX4_operatorByColour_44 ?_
                refine rb_bipush (v := 25) C dX4_operatorByColour_47 rfl ?_
                refine rb_iload C dX4_operatorByColour_49 4 rfl ?_
                refine rb_iadd C dX4_operatorByColour_51 ?_
                by_cases c_g : ((25 + y4_l13_4) < 0 ∨ 44 ≤ (25 + y4_l13_4).toNatClampNeg)
                · exact absurd ((if_pos c_g).symm.trans hf) (fun z => by cases z)
                have hf := (if_neg c_g).symm.trans hf
                refine rb_iald (f := (A_l2_1 0)) C (Or.inl (hM.2.1 0 rfl)) (rb_nN c_g) dX4_operatorByColour_52 ?_
                refine rb_aload_n C dX4_operatorByColour_53 rfl 0 rfl ?_
                refine rb_get (v := .ref (a 0)) C fl_X4_7_X4 (Or.inl hM.1) rfl dX4_operatorByColour_54 ?_
                refine rb_bipush (v := 25) C dX4_operatorByColour_57 rfl ?_
                refine rb_iload_n C dX4_operatorByColour_59 rfl 2 rfl ?_
                refine rb_iadd C dX4_operatorByColour_60 ?_
                by_cases c_g : ((25 + y2_l2_1) < 0 ∨ 44 ≤ (25 + y2_l2_1).toNatClampNeg)
                · exact absurd ((if_pos c_g).symm.trans hf) (fun z => by cases z)
                have hf := (if_neg c_g).symm.trans hf
                refine rb_iald (f := (A_l2_1 0)) C (Or.inl (hM.2.1 0 rfl)) (rb_nN c_g) dX4_operatorByColour_61 ?_
                refine rb_icmp_ne (tgt := 75) C dX4_operatorByColour_62 (by decide) (fun c_11 => ?_) (fun c_11 => ?_)
                · have hf := (if_neg c_11).symm.trans hf
                  refine rb_iconst (v := 0) C dX4_operatorByColour_75 rfl ?_
                  exact J_j76_10 0 hf
                · have hf := (if_pos c_11).symm.trans hf
                  refine rb_iload C dX4_operatorByColour_65 4 rfl ?_
                  refine rb_iload_n C dX4_operatorByColour_67 rfl 2 rfl ?_
                  refine rb_icmp_ge (tgt := 75) C dX4_operatorByColour_68 (by decide) (fun c_12 => ?_) (fun c_12 => ?_)
                  · have hf := (if_pos c_12).symm.trans hf
                    refine rb_iconst (v := 0) C dX4_operatorByColour_75 rfl ?_
                    exact J_j76_10 0 hf
                  · have hf := (if_neg c_12).symm.trans hf
                    refine rb_iconst (v := 1) C dX4_operatorByColour_71 rfl ?_
                    refine rb_goto (tgt := 76) C dX4_operatorByColour_72 (by decide) ?_
                    exact J_j76_10 1 hf
        refine rb_sub [2, 3, 4, 1, 0] rfl ?_
        exact L_l13_4 4096 0 0 hf
  refine rb_sub [1, 2, 0] rfl ?_
  exact L_l2_1 4096 0 S A h hM hF hf
def f_X4_most (x0 : Int32) (x1 : Int32) : Int32 := (if x0 ≤ x1 then x1 else x0)
abbrev rm_X4_most : Room := { frames := 0, cells := 0, slots := 0, locals := 0 }
set_option maxHeartbeats 4000000 in
theorem ct_X4_most (Ev : rb_E) (h : AH) (n : Nat) (x0 : Int32) (x1 : Int32) (rv : Int32) (hf : f_X4_most x0 x1 = rv) : Ct Ev yX4_most (ws_ yX4_most cX4_most 2 (some .int)) rm_X4_most [.int x0, .int x1] h n (pR .int rv h n) := by
  refine Ct.of rfl (Nat.le_of_ble_eq_true rfl) fun X C hnm => ?_
  have C : Cx Ev X RX4 cX4_most 2 (some .int) [] := C
  show Wa Ev X rm_X4_most 2 h n 0 0 (rb_MQ Ev X rm_X4_most (pR .int rv h n)) 0 [(0, .int x0), (1, .int x1)] []
  rw [f_X4_most] at hf
  refine rb_iload_n C dX4_most_0 rfl 0 rfl ?_
  refine rb_iload_n C dX4_most_1 rfl 1 rfl ?_
  refine rb_icmp_le (tgt := 9) C dX4_most_2 (by decide) (fun c_1 => ?_) (fun c_1 => ?_)
  · have hf := (if_pos c_1).symm.trans hf
    refine rb_iload_n C dX4_most_9 rfl 1 rfl ?_
    subst hf
    exact rb_iret C rfl rfl (Nat.zero_le _) (Nat.zero_le _) dX4_most_10 ⟨rfl, rfl, rfl, rfl⟩
  · have hf := (if_neg c_1).symm.trans hf
    refine rb_iload_n C dX4_most_5 rfl 0 rfl ?_
    refine rb_goto (tgt := 10) C dX4_most_6 (by decide) ?_
    subst hf
    exact rb_iret C rfl rfl (Nat.zero_le _) (Nat.zero_le _) dX4_most_10 ⟨rfl, rfl, rfl, rfl⟩
def f_X4_makes (x0 : Int32) (x1 : Int32) (x2 : Int32) : Int32 := (if x0 = 100 then (((x1 - x2) + 1000) - ((x1 - x2) + 1000) / 1000 * 1000) else (if x0 = 103 then (f_X4_most x1 x2) else (if x0 = 108 then ((x1 + x2) - (f_X4_most x1 x2)) else (if x0 = 112 then ((x1 * x2) - (x1 * x2) / 1000 * 1000) else (if x0 = 115 then ((x1 + x2) - (x1 + x2) / 1000 * 1000) else (((10 * x1) + x2) - ((10 * x1) + x2) / 1000 * 1000))))))
abbrev rm_X4_makes : Room := { frames := 1, cells := 0, slots := 0, locals := 21 }
set_option maxHeartbeats 4000000 in
theorem ct_X4_makes (Ev : rb_E) (h : AH) (n : Nat) (x0 : Int32) (x1 : Int32) (x2 : Int32) (rv : Int32) (hf : f_X4_makes x0 x1 x2 = rv) : Ct Ev yX4_makes (ws_ yX4_makes cX4_makes 3 (some .int)) rm_X4_makes [.int x0, .int x1, .int x2] h n (pR .int rv h n) := by
  refine Ct.of rfl (Nat.le_of_ble_eq_true rfl) fun X C hnm => ?_
  have C : Cx Ev X RX4 cX4_makes 3 (some .int) [] := C
  show Wa Ev X rm_X4_makes 3 h n 0 0 (rb_MQ Ev X rm_X4_makes (pR .int rv h n)) 0 [(0, .int x0), (1, .int x1), (2, .int x2)] []
  rw [f_X4_makes] at hf
  refine rb_iload_n C dX4_makes_0 rfl 0 rfl ?_
  by_cases c_1 : x0 = 100
  · have hf := (if_pos c_1).symm.trans hf
    refine rb_top (.int 100) (by rw [c_1]) ?_
    refine rb_lookup (tgt := 60) C dX4_makes_1 (by decide) (off := 59) (by decide) (by decide) ?_
    refine rb_iload_n C dX4_makes_60 rfl 1 rfl ?_
    refine rb_iload_n C dX4_makes_61 rfl 2 rfl ?_
    refine rb_isub C dX4_makes_62 ?_
    refine rb_sipush (v := 1000) C dX4_makes_63 rfl ?_
    refine rb_iadd C dX4_makes_66 ?_
    refine rb_sipush (v := 1000) C dX4_makes_67 rfl ?_
    refine rb_irem C dX4_makes_70 (by decide) ?_
    subst hf
    exact rb_iret C rfl rfl (Nat.zero_le _) (Nat.zero_le _) dX4_makes_71 ⟨rfl, rfl, rfl, rfl⟩
  have hf := (if_neg c_1).symm.trans hf
  by_cases c_2 : x0 = 103
  · have hf := (if_pos c_2).symm.trans hf
    refine rb_top (.int 103) (by rw [c_2]) ?_
    refine rb_lookup (tgt := 80) C dX4_makes_1 (by decide) (off := 79) (by decide) (by decide) ?_
    refine rb_iload_n C dX4_makes_80 rfl 1 rfl ?_
    refine rb_iload_n C dX4_makes_81 rfl 2 rfl ?_
    refine rb_zSR C mi_X4_most ss_X4_154 (ct_X4_most Ev h n x1 x2 _ rfl) (rest := []) rfl rfl (Nat.le_of_ble_eq_true rfl) ⟨Nat.le_of_ble_eq_true rfl, Nat.le_of_ble_eq_true rfl⟩ ⟨Nat.zero_le _, Nat.zero_le _⟩ dX4_makes_82 (fun hn_3 => ?_)
    subst hf
    exact rb_iret C rfl rfl (Nat.zero_le _) (Nat.zero_le _) dX4_makes_85 ⟨rfl, rfl, rfl, rfl⟩
  have hf := (if_neg c_2).symm.trans hf
  by_cases c_4 : x0 = 108
  · have hf := (if_pos c_4).symm.trans hf
    refine rb_top (.int 108) (by rw [c_4]) ?_
    refine rb_lookup (tgt := 86) C dX4_makes_1 (by decide) (off := 85) (by decide) (by decide) ?_
    refine rb_iload_n C dX4_makes_86 rfl 1 rfl ?_
    refine rb_iload_n C dX4_makes_87 rfl 2 rfl ?_
    refine rb_iadd C dX4_makes_88 ?_
    refine rb_iload_n C dX4_makes_89 rfl 1 rfl ?_
    refine rb_iload_n C dX4_makes_90 rfl 2 rfl ?_
    refine rb_zSR C mi_X4_most ss_X4_154 (ct_X4_most Ev h n x1 x2 _ rfl) (rest := [.int (x1 + x2)]) rfl rfl (Nat.le_of_ble_eq_true rfl) ⟨Nat.le_of_ble_eq_true rfl, Nat.le_of_ble_eq_true rfl⟩ ⟨Nat.zero_le _, Nat.zero_le _⟩ dX4_makes_91 (fun hn_5 => ?_)
    refine rb_isub C dX4_makes_94 ?_
    subst hf
    exact rb_iret C rfl rfl (Nat.zero_le _) (Nat.zero_le _) dX4_makes_95 ⟨rfl, rfl, rfl, rfl⟩
  have hf := (if_neg c_4).symm.trans hf
  by_cases c_6 : x0 = 112
  · have hf := (if_pos c_6).symm.trans hf
    refine rb_top (.int 112) (by rw [c_6]) ?_
    refine rb_lookup (tgt := 72) C dX4_makes_1 (by decide) (off := 71) (by decide) (by decide) ?_
    refine rb_iload_n C dX4_makes_72 rfl 1 rfl ?_
    refine rb_iload_n C dX4_makes_73 rfl 2 rfl ?_
    refine rb_imul C dX4_makes_74 ?_
    refine rb_sipush (v := 1000) C dX4_makes_75 rfl ?_
    refine rb_irem C dX4_makes_78 (by decide) ?_
    subst hf
    exact rb_iret C rfl rfl (Nat.zero_le _) (Nat.zero_le _) dX4_makes_79 ⟨rfl, rfl, rfl, rfl⟩
  have hf := (if_neg c_6).symm.trans hf
  by_cases c_7 : x0 = 115
  · have hf := (if_pos c_7).symm.trans hf
    refine rb_top (.int 115) (by rw [c_7]) ?_
    refine rb_lookup (tgt := 52) C dX4_makes_1 (by decide) (off := 51) (by decide) (by decide) ?_
    refine rb_iload_n C dX4_makes_52 rfl 1 rfl ?_
    refine rb_iload_n C dX4_makes_53 rfl 2 rfl ?_
    refine rb_iadd C dX4_makes_54 ?_
    refine rb_sipush (v := 1000) C dX4_makes_55 rfl ?_
    refine rb_irem C dX4_makes_58 (by decide) ?_
    subst hf
    exact rb_iret C rfl rfl (Nat.zero_le _) (Nat.zero_le _) dX4_makes_59 ⟨rfl, rfl, rfl, rfl⟩
  have hf := (if_neg c_7).symm.trans hf
  refine rb_lookup (tgt := 96) C dX4_makes_1 (by decide) (off := 95) (by show Op.lookupswitch.offset [(100, 59), (103, 79), (108, 85), (112, 71), (115, 51)] 95 _ = _; rw [lv_osw (k := 100) (a := 100) c_1 (by decide), lv_osw (k := 103) (a := 103) c_2 (by decide), lv_osw (k := 108) (a := 108) c_4 (by decide), lv_osw (k := 112) (a := 112) c_6 (by decide), lv_osw (k := 115) (a := 115) c_7 (by decide)]; rfl) (by decide) ?_
  refine rb_bipush (v := 10) C dX4_makes_96 rfl ?_
  refine rb_iload_n C dX4_makes_98 rfl 1 rfl ?_
  refine rb_imul C dX4_makes_99 ?_
  refine rb_iload_n C dX4_makes_100 rfl 2 rfl ?_
  refine rb_iadd C dX4_makes_101 ?_
  refine rb_sipush (v := 1000) C dX4_makes_102 rfl ?_
  refine rb_irem C dX4_makes_105 (by decide) ?_
  subst hf
  exact rb_iret C rfl rfl (Nat.zero_le _) (Nat.zero_le _) dX4_makes_106 ⟨rfl, rfl, rfl, rfl⟩
def f_X4_apply_j35_3 (x1 : Int32) (x2 : Int32) (x3 : Int32) (S : Nat → Int32) (A : Nat → Nat → Int32) (w0_j35_3 : Int32) : Option (Int32 × (Nat → Int32) × (Nat → Nat → Int32)) := ((f_X4_fails S A w0_j35_3).bind fun (v_9, S_6, A_7) => (if v_9 = 0 then (some ((f_X4_makes x1 x2 x3), S_6, A_7)) else (some (0, S_6, A_7))))
def f_X4_apply (S : Nat → Int32) (A : Nat → Nat → Int32) (x1 : Int32) (x2 : Int32) (x3 : Int32) : Option (Int32 × (Nat → Int32) × (Nat → Nat → Int32)) := (if (f_X4_isMeaning x1) = 0 then (f_X4_apply_j35_3 x1 x2 x3 S A 1) else (if (f_X4_in x2 0 999) = 0 then (f_X4_apply_j35_3 x1 x2 x3 S A 1) else (if (f_X4_in x3 0 999) = 0 then (f_X4_apply_j35_3 x1 x2 x3 S A 1) else (f_X4_apply_j35_3 x1 x2 x3 S A 0))))
abbrev rm_X4_apply : Room := { frames := 2, cells := 0, slots := 0, locals := 43 }
set_option maxHeartbeats 4000000 in
theorem ct_X4_apply (Ev : rb_E) (h : AH) (n : Nat) (o : Nat) (a : Nat → Nat) (S : Nat → Int32) (A : Nat → Nat → Int32) (x1 : Int32) (x2 : Int32) (x3 : Int32) (rv : Int32) (rS : Nat → Int32) (rA : Nat → Nat → Int32) (hM : MD Ev h o a S A) (hf : f_X4_apply S A x1 x2 x3 = some (rv, rS, rA)) : Ct Ev yX4_apply (ws_ yX4_apply cX4_apply 4 (some .int)) rm_X4_apply [.ref o, .int x1, .int x2, .int x3] h n (pM Ev .int o a h n rv rS rA) := by
  refine Ct.of rfl (Nat.le_of_ble_eq_true rfl) fun X C hnm => ?_
  have C : Cx Ev X RX4 cX4_apply 4 (some .int) [] := C
  show Wa Ev X rm_X4_apply 4 h n 0 0 (rb_MQ Ev X rm_X4_apply (pM Ev .int o a h n rv rS rA)) 0 [(0, .ref o), (1, .int x1), (2, .int x2), (3, .int x3)] []
  have hF : mdFr h h o a := mdFr.rf
  rw [f_X4_apply] at hf
  refine rb_aload_n C dX4_apply_0 rfl 0 rfl ?_
  refine rb_iload_n C dX4_apply_1 rfl 1 rfl ?_
  refine rb_zSR C mi_X4_isMeaning ss_X4_144 (ct_X4_isMeaning Ev h n x1 _ rfl) (rest := [.ref o]) rfl rfl (Nat.le_of_ble_eq_true rfl) ⟨Nat.le_of_ble_eq_true rfl, Nat.le_of_ble_eq_true rfl⟩ ⟨Nat.zero_le _, Nat.zero_le _⟩ dX4_apply_2 (fun hn_1 => ?_)
  have J_j35_3 : ∀ (w0_j35_3 : Int32), f_X4_apply_j35_3 x1 x2 x3 S A w0_j35_3 = some (rv, rS, rA) → Wa Ev X rm_X4_apply 4 h n 0 0 (rb_MQ Ev X rm_X4_apply (pM Ev .int o a h n rv rS rA)) 35 [(0, .ref o), (1, .int x1), (2, .int x2), (3, .int x3)] [.int w0_j35_3, .ref o] := by
    intro w0_j35_3 hf
    rw [f_X4_apply_j35_3] at hf
    obtain ⟨⟨v_9, S_6, A_7⟩, e_5, hf⟩ := rb_bd hf
    refine rb_zVM C mi_X4_fails sv_X4_123 (IsC.of (Or.inl hM.1) ck_X4) (ct_X4_fails Ev h n o a S A w0_j35_3 _ _ _ hM e_5) (rest := []) rfl rfl (Nat.le_of_ble_eq_true rfl) ⟨Nat.le_of_ble_eq_true rfl, Nat.le_of_ble_eq_true rfl⟩ ⟨Nat.zero_le _, Nat.zero_le _⟩ dX4_apply_35 (fun h_8 hM hF1 hn_10 => ?_)
    have hF := hF.tr hF1
    refine rb_if_eq (tgt := 45) C dX4_apply_38 (by decide) (fun c_11 => ?_) (fun c_11 => ?_)
    · have hf := (if_pos c_11).symm.trans hf
      refine rb_iload_n C dX4_apply_45 rfl 1 rfl ?_
      refine rb_iload_n C dX4_apply_46 rfl 2 rfl ?_
      refine rb_iload_n C dX4_apply_47 rfl 3 rfl ?_
      refine rb_zSR C mi_X4_makes ss_X4_158 (ct_X4_makes Ev h_8 n x1 x2 x3 _ rfl) (rest := []) rfl rfl (Nat.le_of_ble_eq_true rfl) ⟨Nat.le_of_ble_eq_true rfl, Nat.le_of_ble_eq_true rfl⟩ ⟨Nat.zero_le _, Nat.zero_le _⟩ dX4_apply_48 (fun hn_12 => ?_)
      cases hf
      exact rb_iret C rfl rfl (Nat.zero_le _) (Nat.zero_le _) dX4_apply_51 ⟨rfl, rfl, hM, hF, rfl⟩
    · have hf := (if_neg c_11).symm.trans hf
      refine rb_iconst (v := 0) C dX4_apply_41 rfl ?_
      refine rb_goto (tgt := 51) C dX4_apply_42 (by decide) ?_
      cases hf
      exact rb_iret C rfl rfl (Nat.zero_le _) (Nat.zero_le _) dX4_apply_51 ⟨rfl, rfl, hM, hF, rfl⟩
  refine rb_if_eq (tgt := 34) C dX4_apply_5 (by decide) (fun c_2 => ?_) (fun c_2 => ?_)
  · have hf := (if_pos c_2).symm.trans hf
    refine rb_iconst (v := 1) C dX4_apply_34 rfl ?_
    exact J_j35_3 1 hf
  · have hf := (if_neg c_2).symm.trans hf
    refine rb_iload_n C dX4_apply_8 rfl 2 rfl ?_
    refine rb_iconst (v := 0) C dX4_apply_9 rfl ?_
    refine rb_sipush (v := 999) C dX4_apply_10 rfl ?_
    refine rb_zSR C mi_X4_in ss_X4_103 (ct_X4_in Ev h n x2 0 999 _ rfl) (rest := [.ref o]) rfl rfl (Nat.le_of_ble_eq_true rfl) ⟨Nat.le_of_ble_eq_true rfl, Nat.le_of_ble_eq_true rfl⟩ ⟨Nat.zero_le _, Nat.zero_le _⟩ dX4_apply_13 (fun hn_13 => ?_)
    refine rb_if_eq (tgt := 34) C dX4_apply_16 (by decide) (fun c_14 => ?_) (fun c_14 => ?_)
    · have hf := (if_pos c_14).symm.trans hf
      refine rb_iconst (v := 1) C dX4_apply_34 rfl ?_
      exact J_j35_3 1 hf
    · have hf := (if_neg c_14).symm.trans hf
      refine rb_iload_n C dX4_apply_19 rfl 3 rfl ?_
      refine rb_iconst (v := 0) C dX4_apply_20 rfl ?_
      refine rb_sipush (v := 999) C dX4_apply_21 rfl ?_
      refine rb_zSR C mi_X4_in ss_X4_103 (ct_X4_in Ev h n x3 0 999 _ rfl) (rest := [.ref o]) rfl rfl (Nat.le_of_ble_eq_true rfl) ⟨Nat.le_of_ble_eq_true rfl, Nat.le_of_ble_eq_true rfl⟩ ⟨Nat.zero_le _, Nat.zero_le _⟩ dX4_apply_24 (fun hn_15 => ?_)
      refine rb_if_eq (tgt := 34) C dX4_apply_27 (by decide) (fun c_16 => ?_) (fun c_16 => ?_)
      · have hf := (if_pos c_16).symm.trans hf
        refine rb_iconst (v := 1) C dX4_apply_34 rfl ?_
        exact J_j35_3 1 hf
      · have hf := (if_neg c_16).symm.trans hf
        refine rb_iconst (v := 0) C dX4_apply_30 rfl ?_
        refine rb_goto (tgt := 35) C dX4_apply_31 (by decide) ?_
        exact J_j35_3 0 hf
def f_X4_isDraft_l36_8  : Nat → Int32 → (Nat → Int32) → (Nat → Nat → Int32) → Option (Int32 × (Nat → Int32) × (Nat → Nat → Int32))
  | 0, _, _, _ => none
  | k_l36_8 + 1, y2_l36_8, S_l36_8, A_l36_8 => (if (S_l36_8 19) ≤ y2_l36_8 then (some (1, S_l36_8, A_l36_8)) else ((f_X4_draft S_l36_8 A_l36_8 y2_l36_8).bind fun v_12 => if (y2_l36_8 < 0 ∨ 24 ≤ y2_l36_8.toNatClampNeg) then none else if (y2_l36_8 < 0 ∨ 24 ≤ y2_l36_8.toNatClampNeg) then none else ((f_X4_isDraft_l36_8  k_l36_8) (y2_l36_8 + 1) S_l36_8 (va_up (va_up A_l36_8 17 (upd (A_l36_8 17) y2_l36_8.toNatClampNeg v_12)) 18 (upd (A_l36_8 18) y2_l36_8.toNatClampNeg y2_l36_8)))))
def f_X4_isDraft (S : Nat → Int32) (A : Nat → Nat → Int32) : Option (Int32 × (Nat → Int32) × (Nat → Nat → Int32)) := ((f_X4_broken S A ).bind fun v_3 => (if v_3 < 0 then (f_X4_isDraft_l36_8  4096 0 (upd (upd S 8 0) 19 ((A 0) 0)) A) else ((f_X4_denies S A 1 2 v_3).bind fun (v_21, S_18, A_19) => (some (0, S_18, A_19)))))
abbrev rm_X4_isDraft : Room := { frames := 4, cells := 0, slots := 0, locals := 87 }
set_option maxHeartbeats 4000000 in
theorem ct_X4_isDraft (Ev : rb_E) (h : AH) (n : Nat) (o : Nat) (a : Nat → Nat) (S : Nat → Int32) (A : Nat → Nat → Int32)  (rv : Int32) (rS : Nat → Int32) (rA : Nat → Nat → Int32) (hM : MD Ev h o a S A) (hf : f_X4_isDraft S A = some (rv, rS, rA)) : Ct Ev yX4_isDraft (ws_ yX4_isDraft cX4_isDraft 3 (some .boolean)) rm_X4_isDraft [.ref o] h n (pM Ev .boolean o a h n rv rS rA) := by
  refine Ct.of rfl (Nat.le_of_ble_eq_true rfl) fun X C hnm => ?_
  have C : Cx Ev X RX4 cX4_isDraft 3 (some .boolean) [] := C
  show Wa Ev X rm_X4_isDraft 3 h n 0 0 (rb_MQ Ev X rm_X4_isDraft (pM Ev .boolean o a h n rv rS rA)) 0 [(0, .ref o)] []
  have hF : mdFr h h o a := mdFr.rf
  rw [f_X4_isDraft] at hf
  refine rb_aload_n C dX4_isDraft_0 rfl 0 rfl ?_
  obtain ⟨v_3, e_2, hf⟩ := rb_bd hf
  refine rb_zVR C mi_X4_broken sv_X4_141 (IsC.of (Or.inl hM.1) ck_X4) (ct_X4_broken Ev h n o a S A  _ hM e_2) (rest := []) rfl rfl (Nat.le_of_ble_eq_true rfl) ⟨Nat.le_of_ble_eq_true rfl, Nat.le_of_ble_eq_true rfl⟩ ⟨Nat.zero_le _, Nat.zero_le _⟩ dX4_isDraft_1 (fun hn_4 => ?_)
  refine rb_istore_n (lv' := [(1, .int v_3), (0, .ref o)]) C dX4_isDraft_4 rfl (by decide) rfl ?_
  refine rb_iload_n C dX4_isDraft_5 rfl 0 rfl ?_
  refine rb_if_lt (tgt := 19) C dX4_isDraft_6 (by decide) (fun c_5 => ?_) (fun c_5 => ?_)
  · have hf := (if_pos c_5).symm.trans hf
    refine rb_aload_n C dX4_isDraft_19 rfl 1 rfl ?_
    refine rb_iconst (v := 0) C dX4_isDraft_20 rfl ?_
    refine rb_put (v := .int 0) C fw_X4_73_X4 hM.1 rfl rfl (Nat.le_of_ble_eq_true rfl) dX4_isDraft_21 (fun h_6 e1 e2 => ?_)
    have hM : MD Ev h_6 o a (upd S 8 0) A := hM.put e1 e2 rfl
    have hF := hF.put e2
    refine rb_aload_n C dX4_isDraft_24 rfl 1 rfl ?_
    refine rb_aload_n C dX4_isDraft_25 rfl 1 rfl ?_
    refine rb_get (v := .ref (a 0)) C fl_X4_7_X4 (Or.inl hM.1) rfl dX4_isDraft_26 ?_
    refine rb_iconst (v := 0) C dX4_isDraft_29 rfl ?_
    refine rb_iald (f := (A 0)) C (Or.inl (hM.2.1 0 rfl)) (rb_nN (by decide)) dX4_isDraft_30 ?_
    refine rb_top (.int ((A 0) 0)) rfl ?_
    refine rb_put (v := .int ((A 0) 0)) C fw_X4_161_X4 hM.1 rfl rfl (Nat.le_of_ble_eq_true rfl) dX4_isDraft_31 (fun h_7 e1 e2 => ?_)
    have hM : MD Ev h_7 o a (upd (upd S 8 0) 19 ((A 0) 0)) A := hM.put e1 e2 rfl
    have hF := hF.put e2
    refine rb_iconst (v := 0) C dX4_isDraft_34 rfl ?_
    refine rb_istore_n (lv' := [(2, .int 0), (1, .int v_3), (0, .ref o)]) C dX4_isDraft_35 rfl (by decide) rfl ?_
    have L_l36_8 : ∀ (k_l36_8 : Nat) (y2_l36_8 : Int32) (S_l36_8 : Nat → Int32) (A_l36_8 : Nat → Nat → Int32) (h_l36_8 : AH), MD Ev h_l36_8 o a S_l36_8 A_l36_8 → mdFr h h_l36_8 o a → f_X4_isDraft_l36_8  k_l36_8 y2_l36_8 S_l36_8 A_l36_8 = some (rv, rS, rA) → Wa Ev X rm_X4_isDraft 3 h_l36_8 n 0 0 (rb_MQ Ev X rm_X4_isDraft (pM Ev .boolean o a h n rv rS rA)) 36 [(0, .ref o), (1, .int v_3), (2, .int y2_l36_8)] [] := by
      intro k_l36_8
      induction k_l36_8 with
      | zero => intro y2_l36_8 S_l36_8 A_l36_8 h_l36_8 hM hF hf; cases hf
      | succ k_l36_8 ih_l36_8 =>
        intro y2_l36_8 S_l36_8 A_l36_8 h_l36_8 hM hF hf
        rw [f_X4_isDraft_l36_8] at hf
        refine rb_iload_n C dX4_isDraft_36 rfl 2 rfl ?_
        refine rb_aload_n C dX4_isDraft_37 rfl 0 rfl ?_
        refine rb_get (v := .int (S_l36_8 19)) C fl_X4_161_X4 (Or.inl hM.1) rfl dX4_isDraft_38 ?_
        refine rb_icmp_ge (tgt := 68) C dX4_isDraft_41 (by decide) (fun c_9 => ?_) (fun c_9 => ?_)
        · have hf := (if_pos c_9).symm.trans hf
          refine rb_iconst (v := 1) C dX4_isDraft_68 rfl ?_
          cases hf
          exact rb_iret C rfl rfl (Nat.zero_le _) (Nat.zero_le _) dX4_isDraft_69 ⟨rfl, rfl, hM, hF, rfl⟩
        · have hf := (if_neg c_9).symm.trans hf
          refine rb_aload_n C dX4_isDraft_44 rfl 0 rfl ?_
          refine rb_get (v := .ref (a 17)) C fl_X4_33_X4 (Or.inl hM.1) rfl dX4_isDraft_45 ?_
          refine rb_iload_n C dX4_isDraft_48 rfl 2 rfl ?_
          refine rb_aload_n C dX4_isDraft_49 rfl 0 rfl ?_
          refine rb_iload_n C dX4_isDraft_50 rfl 2 rfl ?_
          obtain ⟨v_12, e_11, hf⟩ := rb_bd hf
          refine rb_zVR C mi_X4_draft sv_X4_117 (IsC.of (Or.inl hM.1) ck_X4) (ct_X4_draft Ev h_l36_8 n o a S_l36_8 A_l36_8 y2_l36_8 _ hM e_11) (rest := [.int y2_l36_8, .ref (a 17)]) rfl rfl (Nat.le_of_ble_eq_true rfl) ⟨Nat.le_of_ble_eq_true rfl, Nat.le_of_ble_eq_true rfl⟩ ⟨Nat.zero_le _, Nat.zero_le _⟩ dX4_isDraft_51 (fun hn_13 => ?_)
          by_cases c_g : (y2_l36_8 < 0 ∨ 24 ≤ y2_l36_8.toNatClampNeg)
          · exact absurd ((if_pos c_g).symm.trans hf) (fun z => by cases z)
          have hf := (if_neg c_g).symm.trans hf
          refine rb_iast (f := (A_l36_8 17)) C (hM.2.1 17 rfl) (rb_nN c_g) dX4_isDraft_54 (fun h_14 e1 e2 => ?_)
          have hM : MD Ev h_14 o a S_l36_8 (va_up A_l36_8 17 (upd (A_l36_8 17) y2_l36_8.toNatClampNeg v_12)) := hM.ast 17 rfl e1 e2
          have hF := hF.ast 17 rfl e2
          refine rb_aload_n C dX4_isDraft_55 rfl 0 rfl ?_
          refine rb_get (v := .ref (a 18)) C fl_X4_36_X4 (Or.inl hM.1) rfl dX4_isDraft_56 ?_
          refine rb_iload_n C dX4_isDraft_59 rfl 2 rfl ?_
          refine rb_iload_n C dX4_isDraft_60 rfl 2 rfl ?_
          by_cases c_g : (y2_l36_8 < 0 ∨ 24 ≤ y2_l36_8.toNatClampNeg)
          · exact absurd ((if_pos c_g).symm.trans hf) (fun z => by cases z)
          have hf := (if_neg c_g).symm.trans hf
          refine rb_iast (f := (A_l36_8 18)) C (hM.2.1 18 rfl) (rb_nN c_g) dX4_isDraft_61 (fun h_15 e1 e2 => ?_)
          have hM : MD Ev h_15 o a S_l36_8 (va_up (va_up A_l36_8 17 (upd (A_l36_8 17) y2_l36_8.toNatClampNeg v_12)) 18 (upd (A_l36_8 18) y2_l36_8.toNatClampNeg y2_l36_8)) := hM.ast 18 rfl e1 e2
          have hF := hF.ast 18 rfl e2
          refine rb_iinc (v := (y2_l36_8 + 1)) (lv' := [(2, .int (y2_l36_8 + 1)), (0, .ref o), (1, .int v_3)]) C dX4_isDraft_62 (k := 2) rfl rfl (by decide) rfl ?_
          refine rb_goto (tgt := 36) C dX4_isDraft_65 (by decide) ?_
          refine rb_sub [1, 2, 0] rfl ?_
          exact ih_l36_8 (y2_l36_8 + 1) S_l36_8 (va_up (va_up A_l36_8 17 (upd (A_l36_8 17) y2_l36_8.toNatClampNeg v_12)) 18 (upd (A_l36_8 18) y2_l36_8.toNatClampNeg y2_l36_8)) h_15 hM hF hf
    refine rb_sub [2, 1, 0] rfl ?_
    exact L_l36_8 4096 0 (upd (upd S 8 0) 19 ((A 0) 0)) A h_7 hM hF hf
  · have hf := (if_neg c_5).symm.trans hf
    refine rb_aload_n C dX4_isDraft_9 rfl 1 rfl ?_
    refine rb_iconst (v := 1) C dX4_isDraft_10 rfl ?_
    refine rb_iconst (v := 2) C dX4_isDraft_11 rfl ?_
    refine rb_iload_n C dX4_isDraft_12 rfl 0 rfl ?_
    obtain ⟨⟨v_21, S_18, A_19⟩, e_17, hf⟩ := rb_bd hf
    refine rb_zVM C mi_X4_denies sv_X4_126 (IsC.of (Or.inl hM.1) ck_X4) (ct_X4_denies Ev h n o a S A 1 2 v_3 _ _ _ hM e_17) (rest := []) rfl rfl (Nat.le_of_ble_eq_true rfl) ⟨Nat.le_of_ble_eq_true rfl, Nat.le_of_ble_eq_true rfl⟩ ⟨Nat.zero_le _, Nat.zero_le _⟩ dX4_isDraft_13 (fun h_20 hM hF1 hn_22 => ?_)
    have hF := hF.tr hF1
    refine rb_pop C dX4_isDraft_16 rfl ?_
    refine rb_iconst (v := 0) C dX4_isDraft_17 rfl ?_
    cases hf
    exact rb_iret C rfl rfl (Nat.zero_le _) (Nat.zero_le _) dX4_isDraft_18 ⟨rfl, rfl, hM, hF, rfl⟩
def f_X4_closing_j36_3 (y2_l4_1 : Int32) (y3_l4_1 : Int32) (rec_l4_1 : Int32 → Int32 → Option Int32) (w0_j36_3 : Int32) : Option Int32 := (if (y2_l4_1 + w0_j36_3) = 0 then (some y3_l4_1) else (rec_l4_1 (y2_l4_1 + w0_j36_3) (y3_l4_1 + 1)))
def f_X4_closing_l4_1 (A : Nat → Nat → Int32) : Nat → Int32 → Int32 → Option Int32
  | 0, _, _ => none
  | k_l4_1 + 1, y2_l4_1, y3_l4_1 => if (y3_l4_1 < 0 ∨ 24 ≤ y3_l4_1.toNatClampNeg) then none else (if ((A 17) y3_l4_1.toNatClampNeg) = 40 then (f_X4_closing_j36_3 y2_l4_1 y3_l4_1 (f_X4_closing_l4_1 A k_l4_1) 1) else if (y3_l4_1 < 0 ∨ 24 ≤ y3_l4_1.toNatClampNeg) then none else (if ((A 17) y3_l4_1.toNatClampNeg) = 41 then (f_X4_closing_j36_3 y2_l4_1 y3_l4_1 (f_X4_closing_l4_1 A k_l4_1) (-1)) else (f_X4_closing_j36_3 y2_l4_1 y3_l4_1 (f_X4_closing_l4_1 A k_l4_1) 0)))
def f_X4_closing (S : Nat → Int32) (A : Nat → Nat → Int32) (x1 : Int32) : Option Int32 := (f_X4_closing_l4_1 A 4096 0 x1)
abbrev rm_X4_closing : Room := { frames := 0, cells := 0, slots := 0, locals := 0 }
set_option maxHeartbeats 4000000 in
theorem ct_X4_closing (Ev : rb_E) (h : AH) (n : Nat) (o : Nat) (a : Nat → Nat) (S : Nat → Int32) (A : Nat → Nat → Int32) (x1 : Int32) (rv : Int32) (hM : MD Ev h o a S A) (hf : f_X4_closing S A x1 = some rv) : Ct Ev yX4_closing (ws_ yX4_closing cX4_closing 4 (some .int)) rm_X4_closing [.ref o, .int x1] h n (pR .int rv h n) := by
  refine Ct.of rfl (Nat.le_of_ble_eq_true rfl) fun X C hnm => ?_
  have C : Cx Ev X RX4 cX4_closing 4 (some .int) [] := C
  show Wa Ev X rm_X4_closing 4 h n 0 0 (rb_MQ Ev X rm_X4_closing (pR .int rv h n)) 0 [(0, .ref o), (1, .int x1)] []
  have hF : mdFr h h o a := mdFr.rf
  rw [f_X4_closing] at hf
  refine rb_iconst (v := 0) C dX4_closing_0 rfl ?_
  refine rb_istore_n (lv' := [(2, .int 0), (0, .ref o), (1, .int x1)]) C dX4_closing_1 rfl (by decide) rfl ?_
  refine rb_iload_n C dX4_closing_2 rfl 2 rfl ?_
  refine rb_istore_n (lv' := [(3, .int x1), (2, .int 0), (0, .ref o), (1, .int x1)]) C dX4_closing_3 rfl (by decide) rfl ?_
  have L_l4_1 : ∀ (k_l4_1 : Nat) (y2_l4_1 : Int32) (y3_l4_1 : Int32), f_X4_closing_l4_1 A k_l4_1 y2_l4_1 y3_l4_1 = some rv → Wa Ev X rm_X4_closing 4 h n 0 0 (rb_MQ Ev X rm_X4_closing (pR .int rv h n)) 4 [(0, .ref o), (1, .int x1), (2, .int y2_l4_1), (3, .int y3_l4_1)] [] := by
    intro k_l4_1
    induction k_l4_1 with
    | zero => intro y2_l4_1 y3_l4_1 hf; cases hf
    | succ k_l4_1 ih_l4_1 =>
      intro y2_l4_1 y3_l4_1 hf
      rw [f_X4_closing_l4_1] at hf
      refine rb_iload_n C dX4_closing_4 rfl 2 rfl ?_
      refine rb_aload_n C dX4_closing_5 rfl 0 rfl ?_
      refine rb_get (v := .ref (a 17)) C fl_X4_33_X4 (Or.inl hM.1) rfl dX4_closing_6 ?_
      refine rb_iload_n C dX4_closing_9 rfl 3 rfl ?_
      by_cases c_g : (y3_l4_1 < 0 ∨ 24 ≤ y3_l4_1.toNatClampNeg)
      · exact absurd ((if_pos c_g).symm.trans hf) (fun z => by cases z)
      have hf := (if_neg c_g).symm.trans hf
      refine rb_iald (f := (A 17)) C (Or.inl (hM.2.1 17 rfl)) (rb_nN c_g) dX4_closing_10 ?_
      refine rb_bipush (v := 40) C dX4_closing_11 rfl ?_
      have J_j36_3 : ∀ (w0_j36_3 : Int32), f_X4_closing_j36_3 y2_l4_1 y3_l4_1 (f_X4_closing_l4_1 A k_l4_1) w0_j36_3 = some rv → Wa Ev X rm_X4_closing 4 h n 0 0 (rb_MQ Ev X rm_X4_closing (pR .int rv h n)) 36 [(0, .ref o), (1, .int x1), (2, .int y2_l4_1), (3, .int y3_l4_1)] [.int w0_j36_3, .int y2_l4_1] := by
        intro w0_j36_3 hf
        rw [f_X4_closing_j36_3] at hf
        refine rb_iadd C dX4_closing_36 ?_
        refine rb_istore_n (lv' := [(2, .int (y2_l4_1 + w0_j36_3)), (0, .ref o), (1, .int x1), (3, .int y3_l4_1)]) C dX4_closing_37 rfl (by decide) rfl ?_
        refine rb_iload_n C dX4_closing_38 rfl 0 rfl ?_
        refine rb_if_ne (tgt := 44) C dX4_closing_39 (by decide) (fun c_4 => ?_) (fun c_4 => ?_)
        · have hf := (if_neg c_4).symm.trans hf
          refine rb_iinc (v := (y3_l4_1 + 1)) (lv' := [(3, .int (y3_l4_1 + 1)), (2, .int (y2_l4_1 + w0_j36_3)), (0, .ref o), (1, .int x1)]) C dX4_closing_44 (k := 3) rfl rfl (by decide) rfl ?_
          refine rb_goto (tgt := 4) C dX4_closing_47 (by decide) ?_
          refine rb_sub [2, 3, 1, 0] rfl ?_
          exact ih_l4_1 (y2_l4_1 + w0_j36_3) (y3_l4_1 + 1) hf
        · have hf := (if_pos c_4).symm.trans hf
          refine rb_iload_n C dX4_closing_42 rfl 3 rfl ?_
          cases hf
          exact rb_iret C rfl rfl (Nat.zero_le _) (Nat.zero_le _) dX4_closing_43 ⟨rfl, rfl, rfl, rfl⟩
      refine rb_icmp_ne (tgt := 20) C dX4_closing_13 (by decide) (fun c_2 => ?_) (fun c_2 => ?_)
      · have hf := (if_neg c_2).symm.trans hf
        refine rb_aload_n C dX4_closing_20 rfl 0 rfl ?_
        refine rb_get (v := .ref (a 17)) C fl_X4_33_X4 (Or.inl hM.1) rfl dX4_closing_21 ?_
        refine rb_iload_n C dX4_closing_24 rfl 3 rfl ?_
        by_cases c_g : (y3_l4_1 < 0 ∨ 24 ≤ y3_l4_1.toNatClampNeg)
        · exact absurd ((if_pos c_g).symm.trans hf) (fun z => by cases z)
        have hf := (if_neg c_g).symm.trans hf
        refine rb_iald (f := (A 17)) C (Or.inl (hM.2.1 17 rfl)) (rb_nN c_g) dX4_closing_25 ?_
        refine rb_bipush (v := 41) C dX4_closing_26 rfl ?_
        refine rb_icmp_ne (tgt := 35) C dX4_closing_28 (by decide) (fun c_5 => ?_) (fun c_5 => ?_)
        · have hf := (if_neg c_5).symm.trans hf
          refine rb_iconst (v := 0) C dX4_closing_35 rfl ?_
          exact J_j36_3 0 hf
        · have hf := (if_pos c_5).symm.trans hf
          refine rb_iconst (v := (-1)) C dX4_closing_31 rfl ?_
          refine rb_goto (tgt := 36) C dX4_closing_32 (by decide) ?_
          exact J_j36_3 (-1) hf
      · have hf := (if_pos c_2).symm.trans hf
        refine rb_iconst (v := 1) C dX4_closing_16 rfl ?_
        refine rb_goto (tgt := 36) C dX4_closing_17 (by decide) ?_
        exact J_j36_3 1 hf
  refine rb_sub [2, 3, 1, 0] rfl ?_
  exact L_l4_1 4096 0 x1 hf
def f_X4_behind_l2_1 (S : Nat → Int32) (A : Nat → Nat → Int32) : Nat → Int32 → Option Int32
  | 0, _ => none
  | k_l2_1 + 1, y2_l2_1 => if (y2_l2_1 < 0 ∨ 24 ≤ y2_l2_1.toNatClampNeg) then none else (if ((A 17) y2_l2_1.toNatClampNeg) = 126 then ((f_X4_behind_l2_1 S A k_l2_1) (y2_l2_1 + 1)) else if (y2_l2_1 < 0 ∨ 24 ≤ y2_l2_1.toNatClampNeg) then none else (if ((A 17) y2_l2_1.toNatClampNeg) = 40 then ((f_X4_closing S A y2_l2_1).bind fun v_6 => (some (v_6 + 1))) else (some (y2_l2_1 + 1))))
def f_X4_behind (S : Nat → Int32) (A : Nat → Nat → Int32) (x1 : Int32) : Option Int32 := (f_X4_behind_l2_1 S A 4096 x1)
abbrev rm_X4_behind : Room := { frames := 1, cells := 0, slots := 0, locals := 23 }
set_option maxHeartbeats 4000000 in
theorem ct_X4_behind (Ev : rb_E) (h : AH) (n : Nat) (o : Nat) (a : Nat → Nat) (S : Nat → Int32) (A : Nat → Nat → Int32) (x1 : Int32) (rv : Int32) (hM : MD Ev h o a S A) (hf : f_X4_behind S A x1 = some rv) : Ct Ev yX4_behind (ws_ yX4_behind cX4_behind 3 (some .int)) rm_X4_behind [.ref o, .int x1] h n (pR .int rv h n) := by
  refine Ct.of rfl (Nat.le_of_ble_eq_true rfl) fun X C hnm => ?_
  have C : Cx Ev X RX4 cX4_behind 3 (some .int) [] := C
  show Wa Ev X rm_X4_behind 3 h n 0 0 (rb_MQ Ev X rm_X4_behind (pR .int rv h n)) 0 [(0, .ref o), (1, .int x1)] []
  have hF : mdFr h h o a := mdFr.rf
  rw [f_X4_behind] at hf
  refine rb_iload_n C dX4_behind_0 rfl 1 rfl ?_
  refine rb_istore_n (lv' := [(2, .int x1), (0, .ref o), (1, .int x1)]) C dX4_behind_1 rfl (by decide) rfl ?_
  have L_l2_1 : ∀ (k_l2_1 : Nat) (y2_l2_1 : Int32), f_X4_behind_l2_1 S A k_l2_1 y2_l2_1 = some rv → Wa Ev X rm_X4_behind 3 h n 0 0 (rb_MQ Ev X rm_X4_behind (pR .int rv h n)) 2 [(0, .ref o), (1, .int x1), (2, .int y2_l2_1)] [] := by
    intro k_l2_1
    induction k_l2_1 with
    | zero => intro y2_l2_1 hf; cases hf
    | succ k_l2_1 ih_l2_1 =>
      intro y2_l2_1 hf
      rw [f_X4_behind_l2_1] at hf
      refine rb_aload_n C dX4_behind_2 rfl 0 rfl ?_
      refine rb_get (v := .ref (a 17)) C fl_X4_33_X4 (Or.inl hM.1) rfl dX4_behind_3 ?_
      refine rb_iload_n C dX4_behind_6 rfl 2 rfl ?_
      by_cases c_g : (y2_l2_1 < 0 ∨ 24 ≤ y2_l2_1.toNatClampNeg)
      · exact absurd ((if_pos c_g).symm.trans hf) (fun z => by cases z)
      have hf := (if_neg c_g).symm.trans hf
      refine rb_iald (f := (A 17)) C (Or.inl (hM.2.1 17 rfl)) (rb_nN c_g) dX4_behind_7 ?_
      refine rb_bipush (v := 126) C dX4_behind_8 rfl ?_
      refine rb_icmp_ne (tgt := 19) C dX4_behind_10 (by decide) (fun c_2 => ?_) (fun c_2 => ?_)
      · have hf := (if_neg c_2).symm.trans hf
        refine rb_aload_n C dX4_behind_19 rfl 0 rfl ?_
        refine rb_get (v := .ref (a 17)) C fl_X4_33_X4 (Or.inl hM.1) rfl dX4_behind_20 ?_
        refine rb_iload_n C dX4_behind_23 rfl 2 rfl ?_
        by_cases c_g : (y2_l2_1 < 0 ∨ 24 ≤ y2_l2_1.toNatClampNeg)
        · exact absurd ((if_pos c_g).symm.trans hf) (fun z => by cases z)
        have hf := (if_neg c_g).symm.trans hf
        refine rb_iald (f := (A 17)) C (Or.inl (hM.2.1 17 rfl)) (rb_nN c_g) dX4_behind_24 ?_
        refine rb_bipush (v := 40) C dX4_behind_25 rfl ?_
        refine rb_icmp_ne (tgt := 40) C dX4_behind_27 (by decide) (fun c_3 => ?_) (fun c_3 => ?_)
        · have hf := (if_neg c_3).symm.trans hf
          refine rb_iload_n C dX4_behind_40 rfl 2 rfl ?_
          refine rb_iconst (v := 1) C dX4_behind_41 rfl ?_
          refine rb_iadd C dX4_behind_42 ?_
          cases hf
          exact rb_iret C rfl rfl (Nat.zero_le _) (Nat.zero_le _) dX4_behind_43 ⟨rfl, rfl, rfl, rfl⟩
        · have hf := (if_pos c_3).symm.trans hf
          refine rb_aload_n C dX4_behind_30 rfl 0 rfl ?_
          refine rb_iload_n C dX4_behind_31 rfl 2 rfl ?_
          obtain ⟨v_6, e_5, hf⟩ := rb_bd hf
          refine rb_zVR C mi_X4_closing sv_X4_164 (IsC.of (Or.inl hM.1) ck_X4) (ct_X4_closing Ev h n o a S A y2_l2_1 _ hM e_5) (rest := []) rfl rfl (Nat.le_of_ble_eq_true rfl) ⟨Nat.le_of_ble_eq_true rfl, Nat.le_of_ble_eq_true rfl⟩ ⟨Nat.zero_le _, Nat.zero_le _⟩ dX4_behind_32 (fun hn_7 => ?_)
          refine rb_iconst (v := 1) C dX4_behind_35 rfl ?_
          refine rb_iadd C dX4_behind_36 ?_
          refine rb_goto (tgt := 43) C dX4_behind_37 (by decide) ?_
          cases hf
          exact rb_iret C rfl rfl (Nat.zero_le _) (Nat.zero_le _) dX4_behind_43 ⟨rfl, rfl, rfl, rfl⟩
      · have hf := (if_pos c_2).symm.trans hf
        refine rb_iinc (v := (y2_l2_1 + 1)) (lv' := [(2, .int (y2_l2_1 + 1)), (0, .ref o), (1, .int x1)]) C dX4_behind_13 (k := 2) rfl rfl (by decide) rfl ?_
        refine rb_goto (tgt := 2) C dX4_behind_16 (by decide) ?_
        refine rb_sub [1, 2, 0] rfl ?_
        exact ih_l2_1 (y2_l2_1 + 1) hf
  refine rb_sub [1, 2, 0] rfl ?_
  exact L_l2_1 4096 x1 hf
def f_X4_shade (S : Nat → Int32) (A : Nat → Nat → Int32) (x1 : Int32) : Option Int32 := if (x1 < 0 ∨ 24 ≤ x1.toNatClampNeg) then none else if ((25 + (f_X4_signOf ((A 17) x1.toNatClampNeg))) < 0 ∨ 44 ≤ (25 + (f_X4_signOf ((A 17) x1.toNatClampNeg))).toNatClampNeg) then none else (some ((A 0) (25 + (f_X4_signOf ((A 17) x1.toNatClampNeg))).toNatClampNeg))
abbrev rm_X4_shade : Room := { frames := 1, cells := 0, slots := 0, locals := 20 }
set_option maxHeartbeats 4000000 in
theorem ct_X4_shade (Ev : rb_E) (h : AH) (n : Nat) (o : Nat) (a : Nat → Nat) (S : Nat → Int32) (A : Nat → Nat → Int32) (x1 : Int32) (rv : Int32) (hM : MD Ev h o a S A) (hf : f_X4_shade S A x1 = some rv) : Ct Ev yX4_shade (ws_ yX4_shade cX4_shade 2 (some .int)) rm_X4_shade [.ref o, .int x1] h n (pR .int rv h n) := by
  refine Ct.of rfl (Nat.le_of_ble_eq_true rfl) fun X C hnm => ?_
  have C : Cx Ev X RX4 cX4_shade 2 (some .int) [] := C
  show Wa Ev X rm_X4_shade 2 h n 0 0 (rb_MQ Ev X rm_X4_shade (pR .int rv h n)) 0 [(0, .ref o), (1, .int x1)] []
  have hF : mdFr h h o a := mdFr.rf
  rw [f_X4_shade] at hf
  refine rb_aload_n C dX4_shade_0 rfl 0 rfl ?_
  refine rb_get (v := .ref (a 0)) C fl_X4_7_X4 (Or.inl hM.1) rfl dX4_shade_1 ?_
  refine rb_bipush (v := 25) C dX4_shade_4 rfl ?_
  refine rb_aload_n C dX4_shade_6 rfl 0 rfl ?_
  refine rb_get (v := .ref (a 17)) C fl_X4_33_X4 (Or.inl hM.1) rfl dX4_shade_7 ?_
  refine rb_iload_n C dX4_shade_10 rfl 1 rfl ?_
  by_cases c_g : (x1 < 0 ∨ 24 ≤ x1.toNatClampNeg)
  · exact absurd ((if_pos c_g).symm.trans hf) (fun z => by cases z)
  have hf := (if_neg c_g).symm.trans hf
  refine rb_iald (f := (A 17)) C (Or.inl (hM.2.1 17 rfl)) (rb_nN c_g) dX4_shade_11 ?_
  refine rb_zSR C mi_X4_signOf ss_X4_99 (ct_X4_signOf Ev h n ((A 17) x1.toNatClampNeg) _ rfl) (rest := [.int 25, .ref (a 0)]) rfl rfl (Nat.le_of_ble_eq_true rfl) ⟨Nat.le_of_ble_eq_true rfl, Nat.le_of_ble_eq_true rfl⟩ ⟨Nat.zero_le _, Nat.zero_le _⟩ dX4_shade_12 (fun hn_1 => ?_)
  refine rb_iadd C dX4_shade_15 ?_
  by_cases c_g : ((25 + (f_X4_signOf ((A 17) x1.toNatClampNeg))) < 0 ∨ 44 ≤ (25 + (f_X4_signOf ((A 17) x1.toNatClampNeg))).toNatClampNeg)
  · exact absurd ((if_pos c_g).symm.trans hf) (fun z => by cases z)
  have hf := (if_neg c_g).symm.trans hf
  refine rb_iald (f := (A 0)) C (Or.inl (hM.2.1 0 rfl)) (rb_nN c_g) dX4_shade_16 ?_
  cases hf
  exact rb_iret C rfl rfl (Nat.zero_le _) (Nat.zero_le _) dX4_shade_17 ⟨rfl, rfl, rfl, rfl⟩
def f_X4_split_l32_8 (x2 : Int32) (S : Nat → Int32) (A : Nat → Nat → Int32) (y3_l5_1 : Int32) (rec_l5_1 : Int32 → Int32 → Option Int32) (w0_j22_3 : Int32) : Nat → Int32 → Option Int32
  | 0, _ => none
  | k_l32_8 + 1, y4_l32_8 => (if w0_j22_3 = 0 then (if y4_l32_8 < x2 then (if y3_l5_1 < 0 then (rec_l5_1 y4_l32_8 (y4_l32_8 + 1)) else ((f_X4_shade S A y4_l32_8).bind fun v_14 => ((f_X4_shade S A y3_l5_1).bind fun v_18 => (if v_14 < v_18 then (rec_l5_1 y4_l32_8 (y4_l32_8 + 1)) else ((f_X4_shade S A y4_l32_8).bind fun v_23 => ((f_X4_shade S A y3_l5_1).bind fun v_27 => (if v_23 = v_27 then ((f_X4_shade S A y4_l32_8).bind fun v_32 => ((f_X4_isRight S A v_32).bind fun v_36 => (if v_36 = 0 then (rec_l5_1 y4_l32_8 (y4_l32_8 + 1)) else (rec_l5_1 y3_l5_1 (y4_l32_8 + 1))))) else (rec_l5_1 y3_l5_1 (y4_l32_8 + 1))))))))) else (some y3_l5_1)) else (if x2 ≤ y4_l32_8 then (if y4_l32_8 < x2 then (if y3_l5_1 < 0 then (rec_l5_1 y4_l32_8 (y4_l32_8 + 1)) else ((f_X4_shade S A y4_l32_8).bind fun v_44 => ((f_X4_shade S A y3_l5_1).bind fun v_48 => (if v_44 < v_48 then (rec_l5_1 y4_l32_8 (y4_l32_8 + 1)) else ((f_X4_shade S A y4_l32_8).bind fun v_53 => ((f_X4_shade S A y3_l5_1).bind fun v_57 => (if v_53 = v_57 then ((f_X4_shade S A y4_l32_8).bind fun v_62 => ((f_X4_isRight S A v_62).bind fun v_66 => (if v_66 = 0 then (rec_l5_1 y4_l32_8 (y4_l32_8 + 1)) else (rec_l5_1 y3_l5_1 (y4_l32_8 + 1))))) else (rec_l5_1 y3_l5_1 (y4_l32_8 + 1))))))))) else (some y3_l5_1)) else ((f_X4_shade S A y4_l32_8).bind fun v_71 => (if v_71 ≤ ((A 0) 31) then (if y4_l32_8 < x2 then (if y3_l5_1 < 0 then (rec_l5_1 y4_l32_8 (y4_l32_8 + 1)) else ((f_X4_shade S A y4_l32_8).bind fun v_78 => ((f_X4_shade S A y3_l5_1).bind fun v_82 => (if v_78 < v_82 then (rec_l5_1 y4_l32_8 (y4_l32_8 + 1)) else ((f_X4_shade S A y4_l32_8).bind fun v_87 => ((f_X4_shade S A y3_l5_1).bind fun v_91 => (if v_87 = v_91 then ((f_X4_shade S A y4_l32_8).bind fun v_96 => ((f_X4_isRight S A v_96).bind fun v_100 => (if v_100 = 0 then (rec_l5_1 y4_l32_8 (y4_l32_8 + 1)) else (rec_l5_1 y3_l5_1 (y4_l32_8 + 1))))) else (rec_l5_1 y3_l5_1 (y4_l32_8 + 1))))))))) else (some y3_l5_1)) else ((f_X4_behind S A (y4_l32_8 + 1)).bind fun v_105 => ((f_X4_split_l32_8 x2 S A y3_l5_1 rec_l5_1 w0_j22_3 k_l32_8) v_105))))))
def f_X4_split_j22_3 (x2 : Int32) (S : Nat → Int32) (A : Nat → Nat → Int32) (y3_l5_1 : Int32) (y4_l5_1 : Int32) (rec_l5_1 : Int32 → Int32 → Option Int32) (w0_j22_3 : Int32) : Option Int32 := ((f_X4_behind S A y4_l5_1).bind fun v_6 => (f_X4_split_l32_8 x2 S A y3_l5_1 rec_l5_1 w0_j22_3 4096 v_6))
def f_X4_split_l5_1 (x2 : Int32) (S : Nat → Int32) (A : Nat → Nat → Int32) : Nat → Int32 → Int32 → Option Int32
  | 0, _, _ => none
  | k_l5_1 + 1, y3_l5_1, y4_l5_1 => if (y4_l5_1 < 0 ∨ 24 ≤ y4_l5_1.toNatClampNeg) then none else (if ((A 17) y4_l5_1.toNatClampNeg) = 126 then (f_X4_split_j22_3 x2 S A y3_l5_1 y4_l5_1 (f_X4_split_l5_1 x2 S A k_l5_1) 1) else (f_X4_split_j22_3 x2 S A y3_l5_1 y4_l5_1 (f_X4_split_l5_1 x2 S A k_l5_1) 0))
def f_X4_split (S : Nat → Int32) (A : Nat → Nat → Int32) (x1 : Int32) (x2 : Int32) : Option Int32 := (f_X4_split_l5_1 x2 S A 4096 (-1) x1)
abbrev rm_X4_split : Room := { frames := 2, cells := 0, slots := 0, locals := 45 }
set_option maxHeartbeats 4000000 in
theorem ct_X4_split (Ev : rb_E) (h : AH) (n : Nat) (o : Nat) (a : Nat → Nat) (S : Nat → Int32) (A : Nat → Nat → Int32) (x1 : Int32) (x2 : Int32) (rv : Int32) (hM : MD Ev h o a S A) (hf : f_X4_split S A x1 x2 = some rv) : Ct Ev yX4_split (ws_ yX4_split cX4_split 6 (some .int)) rm_X4_split [.ref o, .int x1, .int x2] h n (pR .int rv h n) := by
  refine Ct.of rfl (Nat.le_of_ble_eq_true rfl) fun X C hnm => ?_
  have C : Cx Ev X RX4 cX4_split 6 (some .int) [] := C
  show Wa Ev X rm_X4_split 6 h n 0 0 (rb_MQ Ev X rm_X4_split (pR .int rv h n)) 0 [(0, .ref o), (1, .int x1), (2, .int x2)] []
  have hF : mdFr h h o a := mdFr.rf
  rw [f_X4_split] at hf
  refine rb_iconst (v := (-1)) C dX4_split_0 rfl ?_
  refine rb_istore_n (lv' := [(3, .int (-1)), (0, .ref o), (1, .int x1), (2, .int x2)]) C dX4_split_1 rfl (by decide) rfl ?_
  refine rb_iload_n C dX4_split_2 rfl 2 rfl ?_
  refine rb_istore (lv' := [(4, .int x1), (3, .int (-1)), (0, .ref o), (1, .int x1), (2, .int x2)]) C dX4_split_3 (by decide) rfl ?_
  have L_l5_1 : ∀ (k_l5_1 : Nat) (y3_l5_1 : Int32) (y4_l5_1 : Int32), f_X4_split_l5_1 x2 S A k_l5_1 y3_l5_1 y4_l5_1 = some rv → Wa Ev X rm_X4_split 6 h n 0 0 (rb_MQ Ev X rm_X4_split (pR .int rv h n)) 5 [(0, .ref o), (1, .int x1), (2, .int x2), (3, .int y3_l5_1), (4, .int y4_l5_1)] [] := by
    intro k_l5_1
    induction k_l5_1 with
    | zero => intro y3_l5_1 y4_l5_1 hf; cases hf
    | succ k_l5_1 ih_l5_1 =>
      intro y3_l5_1 y4_l5_1 hf
      rw [f_X4_split_l5_1] at hf
      refine rb_aload_n C dX4_split_5 rfl 0 rfl ?_
      refine rb_get (v := .ref (a 17)) C fl_X4_33_X4 (Or.inl hM.1) rfl dX4_split_6 ?_
      refine rb_iload C dX4_split_9 4 rfl ?_
      by_cases c_g : (y4_l5_1 < 0 ∨ 24 ≤ y4_l5_1.toNatClampNeg)
      · exact absurd ((if_pos c_g).symm.trans hf) (fun z => by cases z)
      have hf := (if_neg c_g).symm.trans hf
      refine rb_iald (f := (A 17)) C (Or.inl (hM.2.1 17 rfl)) (rb_nN c_g) dX4_split_11 ?_
      refine rb_bipush (v := 126) C dX4_split_12 rfl ?_
      have J_j22_3 : ∀ (w0_j22_3 : Int32), f_X4_split_j22_3 x2 S A y3_l5_1 y4_l5_1 (f_X4_split_l5_1 x2 S A k_l5_1) w0_j22_3 = some rv → Wa Ev X rm_X4_split 6 h n 0 0 (rb_MQ Ev X rm_X4_split (pR .int rv h n)) 22 [(0, .ref o), (1, .int x1), (2, .int x2), (3, .int y3_l5_1), (4, .int y4_l5_1)] [.int w0_j22_3] := by
        intro w0_j22_3 hf
        rw [f_X4_split_j22_3] at hf
        refine rb_istore (lv' := [(5, .int w0_j22_3), (0, .ref o), (1, .int x1), (2, .int x2), (3, .int y3_l5_1), (4, .int y4_l5_1)]) C dX4_split_22 (by decide) rfl ?_
        refine rb_aload_n C dX4_split_24 rfl 1 rfl ?_
        refine rb_iload C dX4_split_25 5 rfl ?_
        obtain ⟨v_6, e_5, hf⟩ := rb_bd hf
        refine rb_zVR C mi_X4_behind sv_X4_167 (IsC.of (Or.inl hM.1) ck_X4) (ct_X4_behind Ev h n o a S A y4_l5_1 _ hM e_5) (rest := []) rfl rfl (Nat.le_of_ble_eq_true rfl) ⟨Nat.le_of_ble_eq_true rfl, Nat.le_of_ble_eq_true rfl⟩ ⟨Nat.zero_le _, Nat.zero_le _⟩ dX4_split_27 (fun hn_7 => ?_)
        refine rb_istore (lv' := [(4, .int v_6), (5, .int w0_j22_3), (0, .ref o), (1, .int x1), (2, .int x2), (3, .int y3_l5_1)]) C dX4_split_30 (by decide) rfl ?_
        have L_l32_8 : ∀ (k_l32_8 : Nat) (y4_l32_8 : Int32), f_X4_split_l32_8 x2 S A y3_l5_1 (f_X4_split_l5_1 x2 S A k_l5_1) w0_j22_3 k_l32_8 y4_l32_8 = some rv → Wa Ev X rm_X4_split 6 h n 0 0 (rb_MQ Ev X rm_X4_split (pR .int rv h n)) 32 [(0, .ref o), (1, .int x1), (2, .int x2), (3, .int y3_l5_1), (4, .int y4_l32_8), (5, .int w0_j22_3)] [] := by
          intro k_l32_8
          induction k_l32_8 with
          | zero => intro y4_l32_8 hf; cases hf
          | succ k_l32_8 ih_l32_8 =>
            intro y4_l32_8 hf
            rw [f_X4_split_l32_8] at hf
            refine rb_iload C dX4_split_32 5 rfl ?_
            refine rb_if_eq (tgt := 72) C dX4_split_34 (by decide) (fun c_9 => ?_) (fun c_9 => ?_)
            · have hf := (if_pos c_9).symm.trans hf
              refine rb_iload C dX4_split_72 4 rfl ?_
              refine rb_iload_n C dX4_split_74 rfl 2 rfl ?_
              refine rb_icmp_lt (tgt := 80) C dX4_split_75 (by decide) (fun c_10 => ?_) (fun c_10 => ?_)
              · have hf := (if_pos c_10).symm.trans hf
                refine rb_iload_n C dX4_split_80 rfl 3 rfl ?_
                refine rb_if_lt (tgt := 125) C dX4_split_81 (by decide) (fun c_11 => ?_) (fun c_11 => ?_)
                · have hf := (if_pos c_11).symm.trans hf
                  refine rb_iload C dX4_split_125 4 rfl ?_
                  refine rb_istore_n (lv' := [(3, .int y4_l32_8), (0, .ref o), (1, .int x1), (2, .int x2), (4, .int y4_l32_8), (5, .int w0_j22_3)]) C dX4_split_127 rfl (by decide) rfl ?_
                  refine rb_iinc (v := (y4_l32_8 + 1)) (lv' := [(4, .int (y4_l32_8 + 1)), (3, .int y4_l32_8), (0, .ref o), (1, .int x1), (2, .int x2), (5, .int w0_j22_3)]) C dX4_split_128 (k := 4) rfl rfl (by decide) rfl ?_
                  refine rb_goto (tgt := 5) C dX4_split_131 (by decide) ?_
                  refine rb_sub [2, 3, 4, 1, 0] rfl ?_
                  exact ih_l5_1 y4_l32_8 (y4_l32_8 + 1) hf
                · have hf := (if_neg c_11).symm.trans hf
                  refine rb_aload_n C dX4_split_84 rfl 0 rfl ?_
                  refine rb_iload C dX4_split_85 4 rfl ?_
                  obtain ⟨v_14, e_13, hf⟩ := rb_bd hf
                  refine rb_zVR C mi_X4_shade sv_X4_170 (IsC.of (Or.inl hM.1) ck_X4) (ct_X4_shade Ev h n o a S A y4_l32_8 _ hM e_13) (rest := []) rfl rfl (Nat.le_of_ble_eq_true rfl) ⟨Nat.le_of_ble_eq_true rfl, Nat.le_of_ble_eq_true rfl⟩ ⟨Nat.zero_le _, Nat.zero_le _⟩ dX4_split_87 (fun hn_15 => ?_)
                  refine rb_aload_n C dX4_split_90 rfl 0 rfl ?_
                  refine rb_iload_n C dX4_split_91 rfl 3 rfl ?_
                  obtain ⟨v_18, e_17, hf⟩ := rb_bd hf
                  refine rb_zVR C mi_X4_shade sv_X4_170 (IsC.of (Or.inl hM.1) ck_X4) (ct_X4_shade Ev h n o a S A y3_l5_1 _ hM e_17) (rest := [.int v_14]) rfl rfl (Nat.le_of_ble_eq_true rfl) ⟨Nat.le_of_ble_eq_true rfl, Nat.le_of_ble_eq_true rfl⟩ ⟨Nat.zero_le _, Nat.zero_le _⟩ dX4_split_92 (fun hn_19 => ?_)
                  refine rb_icmp_lt (tgt := 125) C dX4_split_95 (by decide) (fun c_20 => ?_) (fun c_20 => ?_)
                  · have hf := (if_pos c_20).symm.trans hf
                    refine rb_iload C dX4_split_125 4 rfl ?_
                    refine rb_istore_n (lv' := [(3, .int y4_l32_8), (0, .ref o), (1, .int x1), (2, .int x2), (4, .int y4_l32_8), (5, .int w0_j22_3)]) C dX4_split_127 rfl (by decide) rfl ?_
                    refine rb_iinc (v := (y4_l32_8 + 1)) (lv' := [(4, .int (y4_l32_8 + 1)), (3, .int y4_l32_8), (0, .ref o), (1, .int x1), (2, .int x2), (5, .int w0_j22_3)]) C dX4_split_128 (k := 4) rfl rfl (by decide) rfl ?_
                    refine rb_goto (tgt := 5) C dX4_split_131 (by decide) ?_
                    refine rb_sub [2, 3, 4, 1, 0] rfl ?_
                    exact ih_l5_1 y4_l32_8 (y4_l32_8 + 1) hf
                  · have hf := (if_neg c_20).symm.trans hf
                    refine rb_aload_n C dX4_split_98 rfl 0 rfl ?_
                    refine rb_iload C dX4_split_99 4 rfl ?_
                    obtain ⟨v_23, e_22, hf⟩ := rb_bd hf
                    refine rb_zVR C mi_X4_shade sv_X4_170 (IsC.of (Or.inl hM.1) ck_X4) (ct_X4_shade Ev h n o a S A y4_l32_8 _ hM e_22) (rest := []) rfl rfl (Nat.le_of_ble_eq_true rfl) ⟨Nat.le_of_ble_eq_true rfl, Nat.le_of_ble_eq_true rfl⟩ ⟨Nat.zero_le _, Nat.zero_le _⟩ dX4_split_101 (fun hn_24 => ?_)
                    refine rb_aload_n C dX4_split_104 rfl 0 rfl ?_
                    refine rb_iload_n C dX4_split_105 rfl 3 rfl ?_
                    obtain ⟨v_27, e_26, hf⟩ := rb_bd hf
                    refine rb_zVR C mi_X4_shade sv_X4_170 (IsC.of (Or.inl hM.1) ck_X4) (ct_X4_shade Ev h n o a S A y3_l5_1 _ hM e_26) (rest := [.int v_23]) rfl rfl (Nat.le_of_ble_eq_true rfl) ⟨Nat.le_of_ble_eq_true rfl, Nat.le_of_ble_eq_true rfl⟩ ⟨Nat.zero_le _, Nat.zero_le _⟩ dX4_split_106 (fun hn_28 => ?_)
                    refine rb_icmp_ne (tgt := 128) C dX4_split_109 (by decide) (fun c_29 => ?_) (fun c_29 => ?_)
                    · have hf := (if_neg c_29).symm.trans hf
                      refine rb_iinc (v := (y4_l32_8 + 1)) (lv' := [(4, .int (y4_l32_8 + 1)), (0, .ref o), (1, .int x1), (2, .int x2), (3, .int y3_l5_1), (5, .int w0_j22_3)]) C dX4_split_128 (k := 4) rfl rfl (by decide) rfl ?_
                      refine rb_goto (tgt := 5) C dX4_split_131 (by decide) ?_
                      refine rb_sub [1, 2, 3, 4, 0] rfl ?_
                      exact ih_l5_1 y3_l5_1 (y4_l32_8 + 1) hf
                    · have hf := (if_pos c_29).symm.trans hf
                      refine rb_aload_n C dX4_split_112 rfl 0 rfl ?_
                      refine rb_aload_n C dX4_split_113 rfl 0 rfl ?_
                      refine rb_iload C dX4_split_114 4 rfl ?_
                      obtain ⟨v_32, e_31, hf⟩ := rb_bd hf
                      refine rb_zVR C mi_X4_shade sv_X4_170 (IsC.of (Or.inl hM.1) ck_X4) (ct_X4_shade Ev h n o a S A y4_l32_8 _ hM e_31) (rest := [.ref o]) rfl rfl (Nat.le_of_ble_eq_true rfl) ⟨Nat.le_of_ble_eq_true rfl, Nat.le_of_ble_eq_true rfl⟩ ⟨Nat.zero_le _, Nat.zero_le _⟩ dX4_split_116 (fun hn_33 => ?_)
                      obtain ⟨v_36, e_35, hf⟩ := rb_bd hf
                      refine rb_zVR C mi_X4_isRight sv_X4_147 (IsC.of (Or.inl hM.1) ck_X4) (ct_X4_isRight Ev h n o a S A v_32 _ hM e_35) (rest := []) rfl rfl (Nat.le_of_ble_eq_true rfl) ⟨Nat.le_of_ble_eq_true rfl, Nat.le_of_ble_eq_true rfl⟩ ⟨Nat.zero_le _, Nat.zero_le _⟩ dX4_split_119 (fun hn_37 => ?_)
                      refine rb_if_ne (tgt := 128) C dX4_split_122 (by decide) (fun c_38 => ?_) (fun c_38 => ?_)
                      · have hf := (if_neg c_38).symm.trans hf
                        refine rb_iinc (v := (y4_l32_8 + 1)) (lv' := [(4, .int (y4_l32_8 + 1)), (0, .ref o), (1, .int x1), (2, .int x2), (3, .int y3_l5_1), (5, .int w0_j22_3)]) C dX4_split_128 (k := 4) rfl rfl (by decide) rfl ?_
                        refine rb_goto (tgt := 5) C dX4_split_131 (by decide) ?_
                        refine rb_sub [1, 2, 3, 4, 0] rfl ?_
                        exact ih_l5_1 y3_l5_1 (y4_l32_8 + 1) hf
                      · have hf := (if_pos c_38).symm.trans hf
                        refine rb_iload C dX4_split_125 4 rfl ?_
                        refine rb_istore_n (lv' := [(3, .int y4_l32_8), (0, .ref o), (1, .int x1), (2, .int x2), (4, .int y4_l32_8), (5, .int w0_j22_3)]) C dX4_split_127 rfl (by decide) rfl ?_
                        refine rb_iinc (v := (y4_l32_8 + 1)) (lv' := [(4, .int (y4_l32_8 + 1)), (3, .int y4_l32_8), (0, .ref o), (1, .int x1), (2, .int x2), (5, .int w0_j22_3)]) C dX4_split_128 (k := 4) rfl rfl (by decide) rfl ?_
                        refine rb_goto (tgt := 5) C dX4_split_131 (by decide) ?_
                        refine rb_sub [2, 3, 4, 1, 0] rfl ?_
                        exact ih_l5_1 y4_l32_8 (y4_l32_8 + 1) hf
              · have hf := (if_neg c_10).symm.trans hf
                refine rb_iload_n C dX4_split_78 rfl 3 rfl ?_
                cases hf
                exact rb_iret C rfl rfl (Nat.zero_le _) (Nat.zero_le _) dX4_split_79 ⟨rfl, rfl, rfl, rfl⟩
            · have hf := (if_neg c_9).symm.trans hf
              refine rb_iload C dX4_split_37 4 rfl ?_
              refine rb_iload_n C dX4_split_39 rfl 2 rfl ?_
              refine rb_icmp_ge (tgt := 72) C dX4_split_40 (by decide) (fun c_39 => ?_) (fun c_39 => ?_)
              · have hf := (if_pos c_39).symm.trans hf
                refine rb_iload C dX4_split_72 4 rfl ?_
                refine rb_iload_n C dX4_split_74 rfl 2 rfl ?_
                refine rb_icmp_lt (tgt := 80) C dX4_split_75 (by decide) (fun c_40 => ?_) (fun c_40 => ?_)
                · have hf := (if_pos c_40).symm.trans hf
                  refine rb_iload_n C dX4_split_80 rfl 3 rfl ?_
                  refine rb_if_lt (tgt := 125) C dX4_split_81 (by decide) (fun c_41 => ?_) (fun c_41 => ?_)
                  · have hf := (if_pos c_41).symm.trans hf
                    refine rb_iload C dX4_split_125 4 rfl ?_
                    refine rb_istore_n (lv' := [(3, .int y4_l32_8), (0, .ref o), (1, .int x1), (2, .int x2), (4, .int y4_l32_8), (5, .int w0_j22_3)]) C dX4_split_127 rfl (by decide) rfl ?_
                    refine rb_iinc (v := (y4_l32_8 + 1)) (lv' := [(4, .int (y4_l32_8 + 1)), (3, .int y4_l32_8), (0, .ref o), (1, .int x1), (2, .int x2), (5, .int w0_j22_3)]) C dX4_split_128 (k := 4) rfl rfl (by decide) rfl ?_
                    refine rb_goto (tgt := 5) C dX4_split_131 (by decide) ?_
                    refine rb_sub [2, 3, 4, 1, 0] rfl ?_
                    exact ih_l5_1 y4_l32_8 (y4_l32_8 + 1) hf
                  · have hf := (if_neg c_41).symm.trans hf
                    refine rb_aload_n C dX4_split_84 rfl 0 rfl ?_
                    refine rb_iload C dX4_split_85 4 rfl ?_
                    obtain ⟨v_44, e_43, hf⟩ := rb_bd hf
                    refine rb_zVR C mi_X4_shade sv_X4_170 (IsC.of (Or.inl hM.1) ck_X4) (ct_X4_shade Ev h n o a S A y4_l32_8 _ hM e_43) (rest := []) rfl rfl (Nat.le_of_ble_eq_true rfl) ⟨Nat.le_of_ble_eq_true rfl, Nat.le_of_ble_eq_true rfl⟩ ⟨Nat.zero_le _, Nat.zero_le _⟩ dX4_split_87 (fun hn_45 => ?_)
                    refine rb_aload_n C dX4_split_90 rfl 0 rfl ?_
                    refine rb_iload_n C dX4_split_91 rfl 3 rfl ?_
                    obtain ⟨v_48, e_47, hf⟩ := rb_bd hf
                    refine rb_zVR C mi_X4_shade sv_X4_170 (IsC.of (Or.inl hM.1) ck_X4) (ct_X4_shade Ev h n o a S A y3_l5_1 _ hM e_47) (rest := [.int v_44]) rfl rfl (Nat.le_of_ble_eq_true rfl) ⟨Nat.le_of_ble_eq_true rfl, Nat.le_of_ble_eq_true rfl⟩ ⟨Nat.zero_le _, Nat.zero_le _⟩ dX4_split_92 (fun hn_49 => ?_)
                    refine rb_icmp_lt (tgt := 125) C dX4_split_95 (by decide) (fun c_50 => ?_) (fun c_50 => ?_)
                    · have hf := (if_pos c_50).symm.trans hf
                      refine rb_iload C dX4_split_125 4 rfl ?_
                      refine rb_istore_n (lv' := [(3, .int y4_l32_8), (0, .ref o), (1, .int x1), (2, .int x2), (4, .int y4_l32_8), (5, .int w0_j22_3)]) C dX4_split_127 rfl (by decide) rfl ?_
                      refine rb_iinc (v := (y4_l32_8 + 1)) (lv' := [(4, .int (y4_l32_8 + 1)), (3, .int y4_l32_8), (0, .ref o), (1, .int x1), (2, .int x2), (5, .int w0_j22_3)]) C dX4_split_128 (k := 4) rfl rfl (by decide) rfl ?_
                      refine rb_goto (tgt := 5) C dX4_split_131 (by decide) ?_
                      refine rb_sub [2, 3, 4, 1, 0] rfl ?_
                      exact ih_l5_1 y4_l32_8 (y4_l32_8 + 1) hf
                    · have hf := (if_neg c_50).symm.trans hf
                      refine rb_aload_n C dX4_split_98 rfl 0 rfl ?_
                      refine rb_iload C dX4_split_99 4 rfl ?_
                      obtain ⟨v_53, e_52, hf⟩ := rb_bd hf
                      refine rb_zVR C mi_X4_shade sv_X4_170 (IsC.of (Or.inl hM.1) ck_X4) (ct_X4_shade Ev h n o a S A y4_l32_8 _ hM e_52) (rest := []) rfl rfl (Nat.le_of_ble_eq_true rfl) ⟨Nat.le_of_ble_eq_true rfl, Nat.le_of_ble_eq_true rfl⟩ ⟨Nat.zero_le _, Nat.zero_le _⟩ dX4_split_101 (fun hn_54 => ?_)
                      refine rb_aload_n C dX4_split_104 rfl 0 rfl ?_
                      refine rb_iload_n C dX4_split_105 rfl 3 rfl ?_
                      obtain ⟨v_57, e_56, hf⟩ := rb_bd hf
                      refine rb_zVR C mi_X4_shade sv_X4_170 (IsC.of (Or.inl hM.1) ck_X4) (ct_X4_shade Ev h n o a S A y3_l5_1 _ hM e_56) (rest := [.int v_53]) rfl rfl (Nat.le_of_ble_eq_true rfl) ⟨Nat.le_of_ble_eq_true rfl, Nat.le_of_ble_eq_true rfl⟩ ⟨Nat.zero_le _, Nat.zero_le _⟩ dX4_split_106 (fun hn_58 => ?_)
                      refine rb_icmp_ne (tgt := 128) C dX4_split_109 (by decide) (fun c_59 => ?_) (fun c_59 => ?_)
                      · have hf := (if_neg c_59).symm.trans hf
                        refine rb_iinc (v := (y4_l32_8 + 1)) (lv' := [(4, .int (y4_l32_8 + 1)), (0, .ref o), (1, .int x1), (2, .int x2), (3, .int y3_l5_1), (5, .int w0_j22_3)]) C dX4_split_128 (k := 4) rfl rfl (by decide) rfl ?_
                        refine rb_goto (tgt := 5) C dX4_split_131 (by decide) ?_
                        refine rb_sub [1, 2, 3, 4, 0] rfl ?_
                        exact ih_l5_1 y3_l5_1 (y4_l32_8 + 1) hf
                      · have hf := (if_pos c_59).symm.trans hf
                        refine rb_aload_n C dX4_split_112 rfl 0 rfl ?_
                        refine rb_aload_n C dX4_split_113 rfl 0 rfl ?_
                        refine rb_iload C dX4_split_114 4 rfl ?_
                        obtain ⟨v_62, e_61, hf⟩ := rb_bd hf
                        refine rb_zVR C mi_X4_shade sv_X4_170 (IsC.of (Or.inl hM.1) ck_X4) (ct_X4_shade Ev h n o a S A y4_l32_8 _ hM e_61) (rest := [.ref o]) rfl rfl (Nat.le_of_ble_eq_true rfl) ⟨Nat.le_of_ble_eq_true rfl, Nat.le_of_ble_eq_true rfl⟩ ⟨Nat.zero_le _, Nat.zero_le _⟩ dX4_split_116 (fun hn_63 => ?_)
                        obtain ⟨v_66, e_65, hf⟩ := rb_bd hf
                        refine rb_zVR C mi_X4_isRight sv_X4_147 (IsC.of (Or.inl hM.1) ck_X4) (ct_X4_isRight Ev h n o a S A v_62 _ hM e_65) (rest := []) rfl rfl (Nat.le_of_ble_eq_true rfl) ⟨Nat.le_of_ble_eq_true rfl, Nat.le_of_ble_eq_true rfl⟩ ⟨Nat.zero_le _, Nat.zero_le _⟩ dX4_split_119 (fun hn_67 => ?_)
                        refine rb_if_ne (tgt := 128) C dX4_split_122 (by decide) (fun c_68 => ?_) (fun c_68 => ?_)
                        · have hf := (if_neg c_68).symm.trans hf
                          refine rb_iinc (v := (y4_l32_8 + 1)) (lv' := [(4, .int (y4_l32_8 + 1)), (0, .ref o), (1, .int x1), (2, .int x2), (3, .int y3_l5_1), (5, .int w0_j22_3)]) C dX4_split_128 (k := 4) rfl rfl (by decide) rfl ?_
                          refine rb_goto (tgt := 5) C dX4_split_131 (by decide) ?_
                          refine rb_sub [1, 2, 3, 4, 0] rfl ?_
                          exact ih_l5_1 y3_l5_1 (y4_l32_8 + 1) hf
                        · have hf := (if_pos c_68).symm.trans hf
                          refine rb_iload C dX4_split_125 4 rfl ?_
                          refine rb_istore_n (lv' := [(3, .int y4_l32_8), (0, .ref o), (1, .int x1), (2, .int x2), (4, .int y4_l32_8), (5, .int w0_j22_3)]) C dX4_split_127 rfl (by decide) rfl ?_
                          refine rb_iinc (v := (y4_l32_8 + 1)) (lv' := [(4, .int (y4_l32_8 + 1)), (3, .int y4_l32_8), (0, .ref o), (1, .int x1), (2, .int x2), (5, .int w0_j22_3)]) C dX4_split_128 (k := 4) rfl rfl (by decide) rfl ?_
                          refine rb_goto (tgt := 5) C dX4_split_131 (by decide) ?_
                          refine rb_sub [2, 3, 4, 1, 0] rfl ?_
                          exact ih_l5_1 y4_l32_8 (y4_l32_8 + 1) hf
                · have hf := (if_neg c_40).symm.trans hf
                  refine rb_iload_n C dX4_split_78 rfl 3 rfl ?_
                  cases hf
                  exact rb_iret C rfl rfl (Nat.zero_le _) (Nat.zero_le _) dX4_split_79 ⟨rfl, rfl, rfl, rfl⟩
              · have hf := (if_neg c_39).symm.trans hf
                refine rb_aload_n C dX4_split_43 rfl 0 rfl ?_
                refine rb_iload C dX4_split_44 4 rfl ?_
                obtain ⟨v_71, e_70, hf⟩ := rb_bd hf
                refine rb_zVR C mi_X4_shade sv_X4_170 (IsC.of (Or.inl hM.1) ck_X4) (ct_X4_shade Ev h n o a S A y4_l32_8 _ hM e_70) (rest := []) rfl rfl (Nat.le_of_ble_eq_true rfl) ⟨Nat.le_of_ble_eq_true rfl, Nat.le_of_ble_eq_true rfl⟩ ⟨Nat.zero_le _, Nat.zero_le _⟩ dX4_split_46 (fun hn_72 => ?_)
                refine rb_aload_n C dX4_split_49 rfl 0 rfl ?_
                refine rb_get (v := .ref (a 0)) C fl_X4_7_X4 (Or.inl hM.1) rfl dX4_split_50 ?_
                refine rb_bipush (v := 31) C dX4_split_53 rfl ?_
                refine rb_iald (f := (A 0)) C (Or.inl (hM.2.1 0 rfl)) (rb_nN (by decide)) dX4_split_55 ?_
                refine rb_top (.int ((A 0) 31)) rfl ?_
                refine rb_icmp_le (tgt := 72) C dX4_split_56 (by decide) (fun c_73 => ?_) (fun c_73 => ?_)
                · have hf := (if_pos c_73).symm.trans hf
                  refine rb_iload C dX4_split_72 4 rfl ?_
                  refine rb_iload_n C dX4_split_74 rfl 2 rfl ?_
                  refine rb_icmp_lt (tgt := 80) C dX4_split_75 (by decide) (fun c_74 => ?_) (fun c_74 => ?_)
                  · have hf := (if_pos c_74).symm.trans hf
                    refine rb_iload_n C dX4_split_80 rfl 3 rfl ?_
                    refine rb_if_lt (tgt := 125) C dX4_split_81 (by decide) (fun c_75 => ?_) (fun c_75 => ?_)
                    · have hf := (if_pos c_75).symm.trans hf
                      refine rb_iload C dX4_split_125 4 rfl ?_
                      refine rb_istore_n (lv' := [(3, .int y4_l32_8), (0, .ref o), (1, .int x1), (2, .int x2), (4, .int y4_l32_8), (5, .int w0_j22_3)]) C dX4_split_127 rfl (by decide) rfl ?_
                      refine rb_iinc (v := (y4_l32_8 + 1)) (lv' := [(4, .int (y4_l32_8 + 1)), (3, .int y4_l32_8), (0, .ref o), (1, .int x1), (2, .int x2), (5, .int w0_j22_3)]) C dX4_split_128 (k := 4) rfl rfl (by decide) rfl ?_
                      refine rb_goto (tgt := 5) C dX4_split_131 (by decide) ?_
                      refine rb_sub [2, 3, 4, 1, 0] rfl ?_
                      exact ih_l5_1 y4_l32_8 (y4_l32_8 + 1) hf
                    · have hf := (if_neg c_75).symm.trans hf
                      refine rb_aload_n C dX4_split_84 rfl 0 rfl ?_
                      refine rb_iload C dX4_split_85 4 rfl ?_
                      obtain ⟨v_78, e_77, hf⟩ := rb_bd hf
                      refine rb_zVR C mi_X4_shade sv_X4_170 (IsC.of (Or.inl hM.1) ck_X4) (ct_X4_shade Ev h n o a S A y4_l32_8 _ hM e_77) (rest := []) rfl rfl (Nat.le_of_ble_eq_true rfl) ⟨Nat.le_of_ble_eq_true rfl, Nat.le_of_ble_eq_true rfl⟩ ⟨Nat.zero_le _, Nat.zero_le _⟩ dX4_split_87 (fun hn_79 => ?_)
                      refine rb_aload_n C dX4_split_90 rfl 0 rfl ?_
                      refine rb_iload_n C dX4_split_91 rfl 3 rfl ?_
                      obtain ⟨v_82, e_81, hf⟩ := rb_bd hf
                      refine rb_zVR C mi_X4_shade sv_X4_170 (IsC.of (Or.inl hM.1) ck_X4) (ct_X4_shade Ev h n o a S A y3_l5_1 _ hM e_81) (rest := [.int v_78]) rfl rfl (Nat.le_of_ble_eq_true rfl) ⟨Nat.le_of_ble_eq_true rfl, Nat.le_of_ble_eq_true rfl⟩ ⟨Nat.zero_le _, Nat.zero_le _⟩ dX4_split_92 (fun hn_83 => ?_)
                      refine rb_icmp_lt (tgt := 125) C dX4_split_95 (by decide) (fun c_84 => ?_) (fun c_84 => ?_)
                      · have hf := (if_pos c_84).symm.trans hf
                        refine rb_iload C dX4_split_125 4 rfl ?_
                        refine rb_istore_n (lv' := [(3, .int y4_l32_8), (0, .ref o), (1, .int x1), (2, .int x2), (4, .int y4_l32_8), (5, .int w0_j22_3)]) C dX4_split_127 rfl (by decide) rfl ?_
                        refine rb_iinc (v := (y4_l32_8 + 1)) (lv' := [(4, .int (y4_l32_8 + 1)), (3, .int y4_l32_8), (0, .ref o), (1, .int x1), (2, .int x2), (5, .int w0_j22_3)]) C dX4_split_128 (k := 4) rfl rfl (by decide) rfl ?_
                        refine rb_goto (tgt := 5) C dX4_split_131 (by decide) ?_
                        refine rb_sub [2, 3, 4, 1, 0] rfl ?_
                        exact ih_l5_1 y4_l32_8 (y4_l32_8 + 1) hf
                      · have hf := (if_neg c_84).symm.trans hf
                        refine rb_aload_n C dX4_split_98 rfl 0 rfl ?_
                        refine rb_iload C dX4_split_99 4 rfl ?_
                        obtain ⟨v_87, e_86, hf⟩ := rb_bd hf
                        refine rb_zVR C mi_X4_shade sv_X4_170 (IsC.of (Or.inl hM.1) ck_X4) (ct_X4_shade Ev h n o a S A y4_l32_8 _ hM e_86) (rest := []) rfl rfl (Nat.le_of_ble_eq_true rfl) ⟨Nat.le_of_ble_eq_true rfl, Nat.le_of_ble_eq_true rfl⟩ ⟨Nat.zero_le _, Nat.zero_le _⟩ dX4_split_101 (fun hn_88 => ?_)
                        refine rb_aload_n C dX4_split_104 rfl 0 rfl ?_
                        refine rb_iload_n C dX4_split_105 rfl 3 rfl ?_
                        obtain ⟨v_91, e_90, hf⟩ := rb_bd hf
                        refine rb_zVR C mi_X4_shade sv_X4_170 (IsC.of (Or.inl hM.1) ck_X4) (ct_X4_shade Ev h n o a S A y3_l5_1 _ hM e_90) (rest := [.int v_87]) rfl rfl (Nat.le_of_ble_eq_true rfl) ⟨Nat.le_of_ble_eq_true rfl, Nat.le_of_ble_eq_true rfl⟩ ⟨Nat.zero_le _, Nat.zero_le _⟩ dX4_split_106 (fun hn_92 => ?_)
                        refine rb_icmp_ne (tgt := 128) C dX4_split_109 (by decide) (fun c_93 => ?_) (fun c_93 => ?_)
                        · have hf := (if_neg c_93).symm.trans hf
                          refine rb_iinc (v := (y4_l32_8 + 1)) (lv' := [(4, .int (y4_l32_8 + 1)), (0, .ref o), (1, .int x1), (2, .int x2), (3, .int y3_l5_1), (5, .int w0_j22_3)]) C dX4_split_128 (k := 4) rfl rfl (by decide) rfl ?_
                          refine rb_goto (tgt := 5) C dX4_split_131 (by decide) ?_
                          refine rb_sub [1, 2, 3, 4, 0] rfl ?_
                          exact ih_l5_1 y3_l5_1 (y4_l32_8 + 1) hf
                        · have hf := (if_pos c_93).symm.trans hf
                          refine rb_aload_n C dX4_split_112 rfl 0 rfl ?_
                          refine rb_aload_n C dX4_split_113 rfl 0 rfl ?_
                          refine rb_iload C dX4_split_114 4 rfl ?_
                          obtain ⟨v_96, e_95, hf⟩ := rb_bd hf
                          refine rb_zVR C mi_X4_shade sv_X4_170 (IsC.of (Or.inl hM.1) ck_X4) (ct_X4_shade Ev h n o a S A y4_l32_8 _ hM e_95) (rest := [.ref o]) rfl rfl (Nat.le_of_ble_eq_true rfl) ⟨Nat.le_of_ble_eq_true rfl, Nat.le_of_ble_eq_true rfl⟩ ⟨Nat.zero_le _, Nat.zero_le _⟩ dX4_split_116 (fun hn_97 => ?_)
                          obtain ⟨v_100, e_99, hf⟩ := rb_bd hf
                          refine rb_zVR C mi_X4_isRight sv_X4_147 (IsC.of (Or.inl hM.1) ck_X4) (ct_X4_isRight Ev h n o a S A v_96 _ hM e_99) (rest := []) rfl rfl (Nat.le_of_ble_eq_true rfl) ⟨Nat.le_of_ble_eq_true rfl, Nat.le_of_ble_eq_true rfl⟩ ⟨Nat.zero_le _, Nat.zero_le _⟩ dX4_split_119 (fun hn_101 => ?_)
                          refine rb_if_ne (tgt := 128) C dX4_split_122 (by decide) (fun c_102 => ?_) (fun c_102 => ?_)
                          · have hf := (if_neg c_102).symm.trans hf
                            refine rb_iinc (v := (y4_l32_8 + 1)) (lv' := [(4, .int (y4_l32_8 + 1)), (0, .ref o), (1, .int x1), (2, .int x2), (3, .int y3_l5_1), (5, .int w0_j22_3)]) C dX4_split_128 (k := 4) rfl rfl (by decide) rfl ?_
                            refine rb_goto (tgt := 5) C dX4_split_131 (by decide) ?_
                            refine rb_sub [1, 2, 3, 4, 0] rfl ?_
                            exact ih_l5_1 y3_l5_1 (y4_l32_8 + 1) hf
                          · have hf := (if_pos c_102).symm.trans hf
                            refine rb_iload C dX4_split_125 4 rfl ?_
                            refine rb_istore_n (lv' := [(3, .int y4_l32_8), (0, .ref o), (1, .int x1), (2, .int x2), (4, .int y4_l32_8), (5, .int w0_j22_3)]) C dX4_split_127 rfl (by decide) rfl ?_
                            refine rb_iinc (v := (y4_l32_8 + 1)) (lv' := [(4, .int (y4_l32_8 + 1)), (3, .int y4_l32_8), (0, .ref o), (1, .int x1), (2, .int x2), (5, .int w0_j22_3)]) C dX4_split_128 (k := 4) rfl rfl (by decide) rfl ?_
                            refine rb_goto (tgt := 5) C dX4_split_131 (by decide) ?_
                            refine rb_sub [2, 3, 4, 1, 0] rfl ?_
                            exact ih_l5_1 y4_l32_8 (y4_l32_8 + 1) hf
                  · have hf := (if_neg c_74).symm.trans hf
                    refine rb_iload_n C dX4_split_78 rfl 3 rfl ?_
                    cases hf
                    exact rb_iret C rfl rfl (Nat.zero_le _) (Nat.zero_le _) dX4_split_79 ⟨rfl, rfl, rfl, rfl⟩
                · have hf := (if_neg c_73).symm.trans hf
                  refine rb_aload_n C dX4_split_59 rfl 0 rfl ?_
                  refine rb_iload C dX4_split_60 4 rfl ?_
                  refine rb_iconst (v := 1) C dX4_split_62 rfl ?_
                  refine rb_iadd C dX4_split_63 ?_
                  obtain ⟨v_105, e_104, hf⟩ := rb_bd hf
                  refine rb_zVR C mi_X4_behind sv_X4_167 (IsC.of (Or.inl hM.1) ck_X4) (ct_X4_behind Ev h n o a S A (y4_l32_8 + 1) _ hM e_104) (rest := []) rfl rfl (Nat.le_of_ble_eq_true rfl) ⟨Nat.le_of_ble_eq_true rfl, Nat.le_of_ble_eq_true rfl⟩ ⟨Nat.zero_le _, Nat.zero_le _⟩ dX4_split_64 (fun hn_106 => ?_)
                  refine rb_istore (lv' := [(4, .int v_105), (0, .ref o), (1, .int x1), (2, .int x2), (3, .int y3_l5_1), (5, .int w0_j22_3)]) C dX4_split_67 (by decide) rfl ?_
                  refine rb_goto (tgt := 32) C dX4_split_69 (by decide) ?_
                  refine rb_sub [1, 2, 3, 4, 0, 5] rfl ?_
                  exact ih_l32_8 v_105 hf
        refine rb_sub [2, 3, 4, 5, 0, 1] rfl ?_
        exact L_l32_8 4096 v_6 hf
      refine rb_icmp_ne (tgt := 21) C dX4_split_14 (by decide) (fun c_2 => ?_) (fun c_2 => ?_)
      · have hf := (if_neg c_2).symm.trans hf
        refine rb_iconst (v := 0) C dX4_split_21 rfl ?_
        exact J_j22_3 0 hf
      · have hf := (if_pos c_2).symm.trans hf
        refine rb_iconst (v := 1) C dX4_split_17 rfl ?_
        refine rb_goto (tgt := 22) C dX4_split_18 (by decide) ?_
        exact J_j22_3 1 hf
  refine rb_sub [2, 3, 4, 1, 0] rfl ?_
  exact L_l5_1 4096 (-1) x1 hf
