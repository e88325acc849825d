set_option maxRecDepth 100000
set_option linter.unusedVariables false
def f_J3_indexOfLatin1 (Ev : rb_E) (h : AH) (x0 : Nat) (x1 : Nat) : Option Int32 := ((hp_len Ev h x1 1).bind fun v_1 => (if (nI v_1) = 0 then (some 0) else ((f_J3_length Ev h x0).bind fun v_5 => ((hp_len Ev h x1 1).bind fun v_7 => (if (nI v_7) ≤ v_5 then ((f_J3_length Ev h x0).bind fun v_11 => ((hp_len Ev h x1 1).bind fun v_13 => ((f_J3_indexOfLatin1Unsafe Ev h x0 v_11 x1 (nI v_13) 0).bind fun v_16 => (some v_16)))) else (some (-1)))))))
abbrev rm_J3_indexOfLatin1 : Room := { frames := 2, cells := 0, slots := 0, locals := 51 }
set_option maxHeartbeats 4000000 in
theorem ct_J3_indexOfLatin1 (Ev : rb_E) (h : AH) (n : Nat) (x0 : Nat) (x1 : Nat) (r : Int32) (hf : f_J3_indexOfLatin1 Ev h x0 x1 = some r) : Ct Ev yJ3_indexOfLatin1 (ws_ yJ3_indexOfLatin1 cJ3_indexOfLatin1 2 (some .int)) (rm_J3_indexOfLatin1) [.ref x0, .ref x1] h n (pXi .int r h n) := by
  rw [f_J3_indexOfLatin1] at hf
  refine Ct.of rfl (Nat.le_of_ble_eq_true rfl) fun X C hnm => ?_
  have C : Cx Ev X RJ3 cJ3_indexOfLatin1 2 (some .int) [] := C
  show Wa Ev X (rm_J3_indexOfLatin1) 2 h n 0 0 (rb_MQ Ev X (rm_J3_indexOfLatin1) (pXi .int r h n)) 0 [(0, .ref x0), (1, .ref x1)] []
  refine rb_aload_n C dJ3_indexOfLatin1_0 rfl 1 rfl ?_
  obtain ⟨v_1, e_2, hf⟩ := rb_bd hf
  refine rb_hlen (t := 1) C rfl e_2 dJ3_indexOfLatin1_1 ?_
  refine rb_if_ne (tgt := 7) C dJ3_indexOfLatin1_2 (by decide) (fun c_3 => ?_) (fun c_3 => ?_)
  · have hf := (if_neg c_3).symm.trans hf
    refine rb_aload_n C dJ3_indexOfLatin1_7 rfl 0 rfl ?_
    obtain ⟨v_5, e_6, hf⟩ := rb_bd hf
    refine rb_callS (As := [.ref x0]) (rest := []) C mi_J3_length ss_J3_48 (ct_J3_length Ev h n x0 _ e_6) rfl rfl (Nat.le_of_ble_eq_true rfl) ⟨Nat.le_of_ble_eq_true rfl, Nat.le_of_ble_eq_true rfl, (Nat.zero_le _), (Nat.zero_le _)⟩ dJ3_indexOfLatin1_8 rb_xXi (rb_kXi fun hn_4 => (rb_w (kc := 0) (ks := 0) rfl rfl ?_))
    refine rb_aload_n C dJ3_indexOfLatin1_11 rfl 1 rfl ?_
    obtain ⟨v_7, e_8, hf⟩ := rb_bd hf
    refine rb_hlen (t := 1) C rfl e_8 dJ3_indexOfLatin1_12 ?_
    refine rb_icmp_ge (tgt := 18) C dJ3_indexOfLatin1_13 (by decide) (fun c_9 => ?_) (fun c_9 => ?_)
    · have hf := (if_pos c_9).symm.trans hf
      refine rb_aload_n C dJ3_indexOfLatin1_18 rfl 0 rfl ?_
      refine rb_aload_n C dJ3_indexOfLatin1_19 rfl 0 rfl ?_
      obtain ⟨v_11, e_12, hf⟩ := rb_bd hf
      refine rb_callS (As := [.ref x0]) (rest := [.ref x0]) C mi_J3_length ss_J3_48 (ct_J3_length Ev h n x0 _ e_12) rfl rfl (Nat.le_of_ble_eq_true rfl) ⟨Nat.le_of_ble_eq_true rfl, Nat.le_of_ble_eq_true rfl, (Nat.zero_le _), (Nat.zero_le _)⟩ dJ3_indexOfLatin1_20 rb_xXi (rb_kXi fun hn_10 => (rb_w (kc := 0) (ks := 0) rfl rfl ?_))
      refine rb_aload_n C dJ3_indexOfLatin1_23 rfl 1 rfl ?_
      refine rb_aload_n C dJ3_indexOfLatin1_24 rfl 1 rfl ?_
      obtain ⟨v_13, e_14, hf⟩ := rb_bd hf
      refine rb_hlen (t := 1) C rfl e_14 dJ3_indexOfLatin1_25 ?_
      refine rb_iconst (v := 0) C dJ3_indexOfLatin1_26 rfl ?_
      obtain ⟨v_16, e_17, hf⟩ := rb_bd hf
      refine rb_callS (As := [.ref x0, .int v_11, .ref x1, .int (nI v_13), .int 0]) (rest := []) C mi_J3_indexOfLatin1Unsafe ss_J3_238 (ct_J3_indexOfLatin1Unsafe Ev h n x0 v_11 x1 (nI v_13) 0 _ e_17) rfl rfl (Nat.le_of_ble_eq_true rfl) ⟨Nat.le_of_ble_eq_true rfl, Nat.le_of_ble_eq_true rfl, (Nat.zero_le _), (Nat.zero_le _)⟩ dJ3_indexOfLatin1_27 rb_xXi (rb_kXi fun hn_15 => (rb_w (kc := 0) (ks := 0) rfl rfl ?_))
      cases hf
      exact rb_iret C rfl rfl (Nat.zero_le _) (Nat.zero_le _) dJ3_indexOfLatin1_30 ⟨rfl, rfl, rfl, rfl⟩
    · have hf := (if_neg c_9).symm.trans hf
      refine rb_iconst (v := (-1)) C dJ3_indexOfLatin1_16 rfl ?_
      cases hf
      exact rb_iret C rfl rfl (Nat.zero_le _) (Nat.zero_le _) dJ3_indexOfLatin1_17 ⟨rfl, rfl, rfl, rfl⟩
  · have hf := (if_pos c_3).symm.trans hf
    refine rb_iconst (v := 0) C dJ3_indexOfLatin1_5 rfl ?_
    cases hf
    exact rb_iret C rfl rfl (Nat.zero_le _) (Nat.zero_le _) dJ3_indexOfLatin1_6 ⟨rfl, rfl, rfl, rfl⟩
def f_J3_indexOfUnsafe_l160_11 (Ev : rb_E) (x0 : Nat) (x2 : Nat) (x3 : Int32) (h : AH) (y7_l94_4 : Int32) (rec_l94_4 : Int32 → Option Int32) : Nat → Int32 → Int32 → Option Int32
  | 0, _, _ => none
  | k_l160_11 + 1, y8_l160_11, y10_l160_11 => (if (((y7_l94_4 + 1) + x3) - 1) ≤ y8_l160_11 then (if y8_l160_11 = (((y7_l94_4 + 1) + x3) - 1) then (some y7_l94_4) else (rec_l94_4 (y7_l94_4 + 1))) else ((f_J3_getChar Ev h x0 y8_l160_11).bind fun v_15 => ((f_J3_getChar Ev h x2 y10_l160_11).bind fun v_18 => (if v_15 = v_18 then ((f_J3_indexOfUnsafe_l160_11 Ev x0 x2 x3 h y7_l94_4 rec_l94_4 k_l160_11) (y8_l160_11 + 1) (y10_l160_11 + 1)) else (if y8_l160_11 = (((y7_l94_4 + 1) + x3) - 1) then (some y7_l94_4) else (rec_l94_4 (y7_l94_4 + 1)))))))
def f_J3_indexOfUnsafe_l160_25 (Ev : rb_E) (x0 : Nat) (x2 : Nat) (x3 : Int32) (h : AH) (rec_l94_4 : Int32 → Option Int32) (y7_l112_22 : Int32) : Nat → Int32 → Int32 → Option Int32
  | 0, _, _ => none
  | k_l160_25 + 1, y8_l160_25, y10_l160_25 => (if ((((y7_l112_22 + 1) + 1) + x3) - 1) ≤ y8_l160_25 then (if y8_l160_25 = ((((y7_l112_22 + 1) + 1) + x3) - 1) then (some (y7_l112_22 + 1)) else (rec_l94_4 ((y7_l112_22 + 1) + 1))) else ((f_J3_getChar Ev h x0 y8_l160_25).bind fun v_29 => ((f_J3_getChar Ev h x2 y10_l160_25).bind fun v_32 => (if v_29 = v_32 then ((f_J3_indexOfUnsafe_l160_25 Ev x0 x2 x3 h rec_l94_4 y7_l112_22 k_l160_25) (y8_l160_25 + 1) (y10_l160_25 + 1)) else (if y8_l160_25 = ((((y7_l112_22 + 1) + 1) + x3) - 1) then (some (y7_l112_22 + 1)) else (rec_l94_4 ((y7_l112_22 + 1) + 1)))))))
def f_J3_indexOfUnsafe_l160_41 (Ev : rb_E) (x0 : Nat) (x2 : Nat) (x3 : Int32) (h : AH) (rec_l94_4 : Int32 → Option Int32) (y7_l112_22 : Int32) : Nat → Int32 → Int32 → Option Int32
  | 0, _, _ => none
  | k_l160_41 + 1, y8_l160_41, y10_l160_41 => (if ((((y7_l112_22 + 1) + 1) + x3) - 1) ≤ y8_l160_41 then (if y8_l160_41 = ((((y7_l112_22 + 1) + 1) + x3) - 1) then (some (y7_l112_22 + 1)) else (rec_l94_4 ((y7_l112_22 + 1) + 1))) else ((f_J3_getChar Ev h x0 y8_l160_41).bind fun v_45 => ((f_J3_getChar Ev h x2 y10_l160_41).bind fun v_48 => (if v_45 = v_48 then ((f_J3_indexOfUnsafe_l160_41 Ev x0 x2 x3 h rec_l94_4 y7_l112_22 k_l160_41) (y8_l160_41 + 1) (y10_l160_41 + 1)) else (if y8_l160_41 = ((((y7_l112_22 + 1) + 1) + x3) - 1) then (some (y7_l112_22 + 1)) else (rec_l94_4 ((y7_l112_22 + 1) + 1)))))))
def f_J3_indexOfUnsafe_l112_22 (Ev : rb_E) (x0 : Nat) (x1 : Int32) (x2 : Nat) (x3 : Int32) (h : AH) (v_2 : Int32) (rec_l94_4 : Int32 → Option Int32) : Nat → Int32 → Option Int32
  | 0, _ => none
  | k_l112_22 + 1, y7_l112_22 => (if (x1 - x3) < (y7_l112_22 + 1) then (if (x1 - x3) < (y7_l112_22 + 1) then (rec_l94_4 ((y7_l112_22 + 1) + 1)) else (f_J3_indexOfUnsafe_l160_25 Ev x0 x2 x3 h rec_l94_4 y7_l112_22 4096 ((y7_l112_22 + 1) + 1) 1)) else ((f_J3_getChar Ev h x0 (y7_l112_22 + 1)).bind fun v_37 => (if v_37 = v_2 then (if (x1 - x3) < (y7_l112_22 + 1) then (rec_l94_4 ((y7_l112_22 + 1) + 1)) else (f_J3_indexOfUnsafe_l160_41 Ev x0 x2 x3 h rec_l94_4 y7_l112_22 4096 ((y7_l112_22 + 1) + 1) 1)) else ((f_J3_indexOfUnsafe_l112_22 Ev x0 x1 x2 x3 h v_2 rec_l94_4 k_l112_22) (y7_l112_22 + 1)))))
def f_J3_indexOfUnsafe_l94_4 (Ev : rb_E) (x0 : Nat) (x1 : Int32) (x2 : Nat) (x3 : Int32) (h : AH) (v_2 : Int32) : Nat → Int32 → Option Int32
  | 0, _ => none
  | k_l94_4 + 1, y7_l94_4 => (if (x1 - x3) < y7_l94_4 then (some (-1)) else ((f_J3_getChar Ev h x0 y7_l94_4).bind fun v_7 => (if v_7 = v_2 then (if (x1 - x3) < y7_l94_4 then ((f_J3_indexOfUnsafe_l94_4 Ev x0 x1 x2 x3 h v_2 k_l94_4) (y7_l94_4 + 1)) else (f_J3_indexOfUnsafe_l160_11 Ev x0 x2 x3 h y7_l94_4 (f_J3_indexOfUnsafe_l94_4 Ev x0 x1 x2 x3 h v_2 k_l94_4) 4096 (y7_l94_4 + 1) 1)) else (f_J3_indexOfUnsafe_l112_22 Ev x0 x1 x2 x3 h v_2 (f_J3_indexOfUnsafe_l94_4 Ev x0 x1 x2 x3 h v_2 k_l94_4) 4096 y7_l94_4))))
def f_J3_indexOfUnsafe (Ev : rb_E) (h : AH) (x0 : Nat) (x1 : Int32) (x2 : Nat) (x3 : Int32) (x4 : Int32) : Option Int32 := ((f_J3_getChar Ev h x2 0).bind fun v_2 => (f_J3_indexOfUnsafe_l94_4 Ev x0 x1 x2 x3 h v_2 4096 x4))
abbrev rm_J3_indexOfUnsafe : Room := { frames := 1, cells := 0, slots := 0, locals := 21 }
set_option maxHeartbeats 4000000 in
theorem ct_J3_indexOfUnsafe (Ev : rb_E) (h : AH) (n : Nat) (x0 : Nat) (x1 : Int32) (x2 : Nat) (x3 : Int32) (x4 : Int32) (r : Int32) (hf : f_J3_indexOfUnsafe Ev h x0 x1 x2 x3 x4 = some r) : Ct Ev yJ3_indexOfUnsafe (ws_ yJ3_indexOfUnsafe cJ3_indexOfUnsafe 11 (some .int)) (rm_J3_indexOfUnsafe) [.ref x0, .int x1, .ref x2, .int x3, .int x4] h n (pXi .int r h n) := by
  rw [f_J3_indexOfUnsafe] at hf
  refine Ct.of rfl (Nat.le_of_ble_eq_true rfl) fun X C hnm => ?_
  have C : Cx Ev X RJ3 cJ3_indexOfUnsafe 11 (some .int) [] := C
  show Wa Ev X (rm_J3_indexOfUnsafe) 11 h n 0 0 (rb_MQ Ev X (rm_J3_indexOfUnsafe) (pXi .int r h n)) 0 [(0, .ref x0), (1, .int x1), (2, .ref x2), (3, .int x3), (4, .int x4)] []
  refine rb_gets (v := .int 1) C q336 q337 (C.pf.2.2.1.2.2.2.1) dJ3_indexOfUnsafe_0 ?_
  refine rb_if_ne (tgt := 19) C dJ3_indexOfUnsafe_3 (by decide) (fun _ => ?_) (fun c => absurd c (by decide)) 
  refine rb_gets (v := .int 1) C q336 q337 (C.pf.2.2.1.2.2.2.1) dJ3_indexOfUnsafe_19 ?_
  refine rb_if_ne (tgt := 37) C dJ3_indexOfUnsafe_22 (by decide) (fun _ => ?_) (fun c => absurd c (by decide)) 
  refine rb_gets (v := .int 1) C q336 q337 (C.pf.2.2.1.2.2.2.1) dJ3_indexOfUnsafe_37 ?_
  refine rb_if_ne (tgt := 59) C dJ3_indexOfUnsafe_40 (by decide) (fun _ => ?_) (fun c => absurd c (by decide)) 
  refine rb_gets (v := .int 1) C q336 q337 (C.pf.2.2.1.2.2.2.1) dJ3_indexOfUnsafe_59 ?_
  refine rb_if_ne (tgt := 78) C dJ3_indexOfUnsafe_62 (by decide) (fun _ => ?_) (fun c => absurd c (by decide)) 
  refine rb_aload_n C dJ3_indexOfUnsafe_78 rfl 2 rfl ?_
  refine rb_iconst (v := 0) C dJ3_indexOfUnsafe_79 rfl ?_
  obtain ⟨v_2, e_3, hf⟩ := rb_bd hf
  refine rb_callS (As := [.ref x2, .int 0]) (rest := []) C mi_J3_getChar ss_J3_71 (ct_J3_getChar Ev h n x2 0 _ e_3) rfl rfl (Nat.le_of_ble_eq_true rfl) ⟨Nat.le_of_ble_eq_true rfl, Nat.le_of_ble_eq_true rfl, (Nat.zero_le _), (Nat.zero_le _)⟩ dJ3_indexOfUnsafe_80 rb_xXi (rb_kXi fun hn_1 => (rb_w (kc := 0) (ks := 0) rfl rfl ?_))
  refine rb_istore (lv' := [(5, .int v_2), (0, .ref x0), (1, .int x1), (2, .ref x2), (3, .int x3), (4, .int x4)]) C dJ3_indexOfUnsafe_83 (by decide) rfl ?_
  refine rb_iload_n C dJ3_indexOfUnsafe_85 rfl 2 rfl ?_
  refine rb_iload_n C dJ3_indexOfUnsafe_86 rfl 4 rfl ?_
  refine rb_isub C dJ3_indexOfUnsafe_87 ?_
  refine rb_istore (lv' := [(6, .int (x1 - x3)), (5, .int v_2), (0, .ref x0), (1, .int x1), (2, .ref x2), (3, .int x3), (4, .int x4)]) C dJ3_indexOfUnsafe_88 (by decide) rfl ?_
  refine rb_iload C dJ3_indexOfUnsafe_90 6 rfl ?_
  refine rb_istore (lv' := [(7, .int x4), (6, .int (x1 - x3)), (5, .int v_2), (0, .ref x0), (1, .int x1), (2, .ref x2), (3, .int x3), (4, .int x4)]) C dJ3_indexOfUnsafe_92 (by decide) rfl ?_
  have L_l94_4 : ∀ (k_l94_4 : Nat) (y7_l94_4 : Int32), f_J3_indexOfUnsafe_l94_4 Ev x0 x1 x2 x3 h v_2 k_l94_4 y7_l94_4 = some r → Wa Ev X (rm_J3_indexOfUnsafe) 11 h n 0 0 (rb_MQ Ev X (rm_J3_indexOfUnsafe) (pXi .int r h n)) 94 [(0, .ref x0), (1, .int x1), (2, .ref x2), (3, .int x3), (4, .int x4), (5, .int v_2), (6, .int (x1 - x3)), (7, .int y7_l94_4)] [] := by
    intro k_l94_4
    induction k_l94_4 with
    | zero => intro y7_l94_4 hf; cases hf
    | succ k_l94_4 ih_l94_4 =>
      intro y7_l94_4 hf
      rw [f_J3_indexOfUnsafe_l94_4] at hf
      refine rb_iload C dJ3_indexOfUnsafe_94 7 rfl ?_
      refine rb_iload C dJ3_indexOfUnsafe_96 6 rfl ?_
      refine rb_icmp_gt (tgt := 207) C dJ3_indexOfUnsafe_98 (by decide) (fun c_5 => ?_) (fun c_5 => ?_)
      · have hf := (if_pos c_5).symm.trans hf
        refine rb_iconst (v := (-1)) C dJ3_indexOfUnsafe_207 rfl ?_
        cases hf
        exact rb_iret C rfl rfl (Nat.zero_le _) (Nat.zero_le _) dJ3_indexOfUnsafe_208 ⟨rfl, rfl, rfl, rfl⟩
      · have hf := (if_neg c_5).symm.trans hf
        refine rb_aload_n C dJ3_indexOfUnsafe_101 rfl 0 rfl ?_
        refine rb_iload C dJ3_indexOfUnsafe_102 7 rfl ?_
        obtain ⟨v_7, e_8, hf⟩ := rb_bd hf
        refine rb_callS (As := [.ref x0, .int y7_l94_4]) (rest := []) C mi_J3_getChar ss_J3_71 (ct_J3_getChar Ev h n x0 y7_l94_4 _ e_8) rfl rfl (Nat.le_of_ble_eq_true rfl) ⟨Nat.le_of_ble_eq_true rfl, Nat.le_of_ble_eq_true rfl, (Nat.zero_le _), (Nat.zero_le _)⟩ dJ3_indexOfUnsafe_104 rb_xXi (rb_kXi fun hn_6 => (rb_w (kc := 0) (ks := 0) rfl rfl ?_))
        refine rb_iload C dJ3_indexOfUnsafe_107 5 rfl ?_
        refine rb_icmp_eq (tgt := 136) C dJ3_indexOfUnsafe_109 (by decide) (fun c_9 => ?_) (fun c_9 => ?_)
        · have hf := (if_pos c_9).symm.trans hf
          refine rb_iload C dJ3_indexOfUnsafe_136 7 rfl ?_
          refine rb_iload C dJ3_indexOfUnsafe_138 6 rfl ?_
          refine rb_icmp_gt (tgt := 201) C dJ3_indexOfUnsafe_140 (by decide) (fun c_10 => ?_) (fun c_10 => ?_)
          · have hf := (if_pos c_10).symm.trans hf
            refine rb_iinc (v := (y7_l94_4 + 1)) (lv' := [(7, .int (y7_l94_4 + 1)), (0, .ref x0), (1, .int x1), (2, .ref x2), (3, .int x3), (4, .int x4), (5, .int v_2), (6, .int (x1 - x3))]) C dJ3_indexOfUnsafe_201 (k := 7) rfl rfl (by decide) rfl ?_
            refine rb_goto (tgt := 94) C dJ3_indexOfUnsafe_204 (by decide) ?_
            refine rb_sub [1, 2, 3, 4, 5, 6, 7, 0] rfl ?_
            exact ih_l94_4 (y7_l94_4 + 1) hf
          · have hf := (if_neg c_10).symm.trans hf
            refine rb_iload C dJ3_indexOfUnsafe_143 7 rfl ?_
            refine rb_iconst (v := 1) C dJ3_indexOfUnsafe_145 rfl ?_
            refine rb_iadd C dJ3_indexOfUnsafe_146 ?_
            refine rb_istore (lv' := [(8, .int (y7_l94_4 + 1)), (0, .ref x0), (1, .int x1), (2, .ref x2), (3, .int x3), (4, .int x4), (5, .int v_2), (6, .int (x1 - x3)), (7, .int y7_l94_4)]) C dJ3_indexOfUnsafe_147 (by decide) rfl ?_
            refine rb_iload C dJ3_indexOfUnsafe_149 0 rfl ?_
            refine rb_iload_n C dJ3_indexOfUnsafe_151 rfl 4 rfl ?_
            refine rb_iadd C dJ3_indexOfUnsafe_152 ?_
            refine rb_iconst (v := 1) C dJ3_indexOfUnsafe_153 rfl ?_
            refine rb_isub C dJ3_indexOfUnsafe_154 ?_
            refine rb_istore (lv' := [(9, .int (((y7_l94_4 + 1) + x3) - 1)), (8, .int (y7_l94_4 + 1)), (0, .ref x0), (1, .int x1), (2, .ref x2), (3, .int x3), (4, .int x4), (5, .int v_2), (6, .int (x1 - x3)), (7, .int y7_l94_4)]) C dJ3_indexOfUnsafe_155 (by decide) rfl ?_
            refine rb_iconst (v := 1) C dJ3_indexOfUnsafe_157 rfl ?_
            refine rb_istore (lv' := [(10, .int 1), (9, .int (((y7_l94_4 + 1) + x3) - 1)), (8, .int (y7_l94_4 + 1)), (0, .ref x0), (1, .int x1), (2, .ref x2), (3, .int x3), (4, .int x4), (5, .int v_2), (6, .int (x1 - x3)), (7, .int y7_l94_4)]) C dJ3_indexOfUnsafe_158 (by decide) rfl ?_
            have L_l160_11 : ∀ (k_l160_11 : Nat) (y8_l160_11 : Int32) (y10_l160_11 : Int32), f_J3_indexOfUnsafe_l160_11 Ev x0 x2 x3 h y7_l94_4 (f_J3_indexOfUnsafe_l94_4 Ev x0 x1 x2 x3 h v_2 k_l94_4) k_l160_11 y8_l160_11 y10_l160_11 = some r → Wa Ev X (rm_J3_indexOfUnsafe) 11 h n 0 0 (rb_MQ Ev X (rm_J3_indexOfUnsafe) (pXi .int r h n)) 160 [(0, .ref x0), (1, .int x1), (2, .ref x2), (3, .int x3), (4, .int x4), (5, .int v_2), (6, .int (x1 - x3)), (7, .int y7_l94_4), (8, .int y8_l160_11), (9, .int (((y7_l94_4 + 1) + x3) - 1)), (10, .int y10_l160_11)] [] := by
              intro k_l160_11
              induction k_l160_11 with
              | zero => intro y8_l160_11 y10_l160_11 hf; cases hf
              | succ k_l160_11 ih_l160_11 =>
                intro y8_l160_11 y10_l160_11 hf
                rw [f_J3_indexOfUnsafe_l160_11] at hf
                refine rb_iload C dJ3_indexOfUnsafe_160 8 rfl ?_
                refine rb_iload C dJ3_indexOfUnsafe_162 9 rfl ?_
                refine rb_icmp_ge (tgt := 191) C dJ3_indexOfUnsafe_164 (by decide) (fun c_12 => ?_) (fun c_12 => ?_)
                · have hf := (if_pos c_12).symm.trans hf
                  refine rb_iload C dJ3_indexOfUnsafe_191 8 rfl ?_
                  refine rb_iload C dJ3_indexOfUnsafe_193 9 rfl ?_
                  refine rb_icmp_ne (tgt := 201) C dJ3_indexOfUnsafe_195 (by decide) (fun c_13 => ?_) (fun c_13 => ?_)
                  · have hf := (if_neg c_13).symm.trans hf
                    refine rb_iinc (v := (y7_l94_4 + 1)) (lv' := [(7, .int (y7_l94_4 + 1)), (0, .ref x0), (1, .int x1), (2, .ref x2), (3, .int x3), (4, .int x4), (5, .int v_2), (6, .int (x1 - x3)), (8, .int y8_l160_11), (9, .int (((y7_l94_4 + 1) + x3) - 1)), (10, .int y10_l160_11)]) C dJ3_indexOfUnsafe_201 (k := 7) rfl rfl (by decide) rfl ?_
                    refine rb_goto (tgt := 94) C dJ3_indexOfUnsafe_204 (by decide) ?_
                    refine rb_sub [1, 2, 3, 4, 5, 6, 7, 0] rfl ?_
                    exact ih_l94_4 (y7_l94_4 + 1) hf
                  · have hf := (if_pos c_13).symm.trans hf
                    refine rb_iload C dJ3_indexOfUnsafe_198 7 rfl ?_
                    cases hf
                    exact rb_iret C rfl rfl (Nat.zero_le _) (Nat.zero_le _) dJ3_indexOfUnsafe_200 ⟨rfl, rfl, rfl, rfl⟩
                · have hf := (if_neg c_12).symm.trans hf
                  refine rb_aload_n C dJ3_indexOfUnsafe_167 rfl 0 rfl ?_
                  refine rb_iload C dJ3_indexOfUnsafe_168 8 rfl ?_
                  obtain ⟨v_15, e_16, hf⟩ := rb_bd hf
                  refine rb_callS (As := [.ref x0, .int y8_l160_11]) (rest := []) C mi_J3_getChar ss_J3_71 (ct_J3_getChar Ev h n x0 y8_l160_11 _ e_16) rfl rfl (Nat.le_of_ble_eq_true rfl) ⟨Nat.le_of_ble_eq_true rfl, Nat.le_of_ble_eq_true rfl, (Nat.zero_le _), (Nat.zero_le _)⟩ dJ3_indexOfUnsafe_170 rb_xXi (rb_kXi fun hn_14 => (rb_w (kc := 0) (ks := 0) rfl rfl ?_))
                  refine rb_aload_n C dJ3_indexOfUnsafe_173 rfl 2 rfl ?_
                  refine rb_iload C dJ3_indexOfUnsafe_174 10 rfl ?_
                  obtain ⟨v_18, e_19, hf⟩ := rb_bd hf
                  refine rb_callS (As := [.ref x2, .int y10_l160_11]) (rest := [.int v_15]) C mi_J3_getChar ss_J3_71 (ct_J3_getChar Ev h n x2 y10_l160_11 _ e_19) rfl rfl (Nat.le_of_ble_eq_true rfl) ⟨Nat.le_of_ble_eq_true rfl, Nat.le_of_ble_eq_true rfl, (Nat.zero_le _), (Nat.zero_le _)⟩ dJ3_indexOfUnsafe_176 rb_xXi (rb_kXi fun hn_17 => (rb_w (kc := 0) (ks := 0) rfl rfl ?_))
                  refine rb_icmp_ne (tgt := 191) C dJ3_indexOfUnsafe_179 (by decide) (fun c_20 => ?_) (fun c_20 => ?_)
                  · have hf := (if_neg c_20).symm.trans hf
                    refine rb_iload C dJ3_indexOfUnsafe_191 8 rfl ?_
                    refine rb_iload C dJ3_indexOfUnsafe_193 9 rfl ?_
                    refine rb_icmp_ne (tgt := 201) C dJ3_indexOfUnsafe_195 (by decide) (fun c_21 => ?_) (fun c_21 => ?_)
                    · have hf := (if_neg c_21).symm.trans hf
                      refine rb_iinc (v := (y7_l94_4 + 1)) (lv' := [(7, .int (y7_l94_4 + 1)), (0, .ref x0), (1, .int x1), (2, .ref x2), (3, .int x3), (4, .int x4), (5, .int v_2), (6, .int (x1 - x3)), (8, .int y8_l160_11), (9, .int (((y7_l94_4 + 1) + x3) - 1)), (10, .int y10_l160_11)]) C dJ3_indexOfUnsafe_201 (k := 7) rfl rfl (by decide) rfl ?_
                      refine rb_goto (tgt := 94) C dJ3_indexOfUnsafe_204 (by decide) ?_
                      refine rb_sub [1, 2, 3, 4, 5, 6, 7, 0] rfl ?_
                      exact ih_l94_4 (y7_l94_4 + 1) hf
                    · have hf := (if_pos c_21).symm.trans hf
                      refine rb_iload C dJ3_indexOfUnsafe_198 7 rfl ?_
                      cases hf
                      exact rb_iret C rfl rfl (Nat.zero_le _) (Nat.zero_le _) dJ3_indexOfUnsafe_200 ⟨rfl, rfl, rfl, rfl⟩
                  · have hf := (if_pos c_20).symm.trans hf
                    refine rb_iinc (v := (y8_l160_11 + 1)) (lv' := [(8, .int (y8_l160_11 + 1)), (0, .ref x0), (1, .int x1), (2, .ref x2), (3, .int x3), (4, .int x4), (5, .int v_2), (6, .int (x1 - x3)), (7, .int y7_l94_4), (9, .int (((y7_l94_4 + 1) + x3) - 1)), (10, .int y10_l160_11)]) C dJ3_indexOfUnsafe_182 (k := 8) rfl rfl (by decide) rfl ?_
                    refine rb_iinc (v := (y10_l160_11 + 1)) (lv' := [(10, .int (y10_l160_11 + 1)), (8, .int (y8_l160_11 + 1)), (0, .ref x0), (1, .int x1), (2, .ref x2), (3, .int x3), (4, .int x4), (5, .int v_2), (6, .int (x1 - x3)), (7, .int y7_l94_4), (9, .int (((y7_l94_4 + 1) + x3) - 1))]) C dJ3_indexOfUnsafe_185 (k := 10) rfl rfl (by decide) rfl ?_
                    refine rb_goto (tgt := 160) C dJ3_indexOfUnsafe_188 (by decide) ?_
                    refine rb_sub [2, 3, 4, 5, 6, 7, 8, 9, 1, 10, 0] rfl ?_
                    exact ih_l160_11 (y8_l160_11 + 1) (y10_l160_11 + 1) hf
            refine rb_sub [3, 4, 5, 6, 7, 8, 9, 10, 2, 1, 0] rfl ?_
            exact L_l160_11 4096 (y7_l94_4 + 1) 1 hf
        · have hf := (if_neg c_9).symm.trans hf
          have L_l112_22 : ∀ (k_l112_22 : Nat) (y7_l112_22 : Int32), f_J3_indexOfUnsafe_l112_22 Ev x0 x1 x2 x3 h v_2 (f_J3_indexOfUnsafe_l94_4 Ev x0 x1 x2 x3 h v_2 k_l94_4) k_l112_22 y7_l112_22 = some r → Wa Ev X (rm_J3_indexOfUnsafe) 11 h n 0 0 (rb_MQ Ev X (rm_J3_indexOfUnsafe) (pXi .int r h n)) 112 [(0, .ref x0), (1, .int x1), (2, .ref x2), (3, .int x3), (4, .int x4), (5, .int v_2), (6, .int (x1 - x3)), (7, .int y7_l112_22)] [] := by
            intro k_l112_22
            induction k_l112_22 with
            | zero => intro y7_l112_22 hf; cases hf
            | succ k_l112_22 ih_l112_22 =>
              intro y7_l112_22 hf
              rw [f_J3_indexOfUnsafe_l112_22] at hf
              refine rb_iinc (v := (y7_l112_22 + 1)) (lv' := [(7, .int (y7_l112_22 + 1)), (0, .ref x0), (1, .int x1), (2, .ref x2), (3, .int x3), (4, .int x4), (5, .int v_2), (6, .int (x1 - x3))]) C dJ3_indexOfUnsafe_112 (k := 7) rfl rfl (by decide) rfl ?_
              refine rb_iload C dJ3_indexOfUnsafe_115 0 rfl ?_
              refine rb_iload C dJ3_indexOfUnsafe_117 7 rfl ?_
              refine rb_icmp_gt (tgt := 136) C dJ3_indexOfUnsafe_119 (by decide) (fun c_23 => ?_) (fun c_23 => ?_)
              · have hf := (if_pos c_23).symm.trans hf
                refine rb_iload C dJ3_indexOfUnsafe_136 0 rfl ?_
                refine rb_iload C dJ3_indexOfUnsafe_138 7 rfl ?_
                refine rb_icmp_gt (tgt := 201) C dJ3_indexOfUnsafe_140 (by decide) (fun c_24 => ?_) (fun c_24 => ?_)
                · have hf := (if_pos c_24).symm.trans hf
                  refine rb_iinc (v := ((y7_l112_22 + 1) + 1)) (lv' := [(7, .int ((y7_l112_22 + 1) + 1)), (0, .ref x0), (1, .int x1), (2, .ref x2), (3, .int x3), (4, .int x4), (5, .int v_2), (6, .int (x1 - x3))]) C dJ3_indexOfUnsafe_201 (k := 0) rfl rfl (by decide) rfl ?_
                  refine rb_goto (tgt := 94) C dJ3_indexOfUnsafe_204 (by decide) ?_
                  refine rb_sub [1, 2, 3, 4, 5, 6, 7, 0] rfl ?_
                  exact ih_l94_4 ((y7_l112_22 + 1) + 1) hf
                · have hf := (if_neg c_24).symm.trans hf
                  refine rb_iload C dJ3_indexOfUnsafe_143 0 rfl ?_
                  refine rb_iconst (v := 1) C dJ3_indexOfUnsafe_145 rfl ?_
                  refine rb_iadd C dJ3_indexOfUnsafe_146 ?_
                  refine rb_istore (lv' := [(8, .int ((y7_l112_22 + 1) + 1)), (7, .int (y7_l112_22 + 1)), (0, .ref x0), (1, .int x1), (2, .ref x2), (3, .int x3), (4, .int x4), (5, .int v_2), (6, .int (x1 - x3))]) C dJ3_indexOfUnsafe_147 (by decide) rfl ?_
                  refine rb_iload C dJ3_indexOfUnsafe_149 0 rfl ?_
                  refine rb_iload_n C dJ3_indexOfUnsafe_151 rfl 5 rfl ?_
                  refine rb_iadd C dJ3_indexOfUnsafe_152 ?_
                  refine rb_iconst (v := 1) C dJ3_indexOfUnsafe_153 rfl ?_
                  refine rb_isub C dJ3_indexOfUnsafe_154 ?_
                  refine rb_istore (lv' := [(9, .int ((((y7_l112_22 + 1) + 1) + x3) - 1)), (8, .int ((y7_l112_22 + 1) + 1)), (7, .int (y7_l112_22 + 1)), (0, .ref x0), (1, .int x1), (2, .ref x2), (3, .int x3), (4, .int x4), (5, .int v_2), (6, .int (x1 - x3))]) C dJ3_indexOfUnsafe_155 (by decide) rfl ?_
                  refine rb_iconst (v := 1) C dJ3_indexOfUnsafe_157 rfl ?_
                  refine rb_istore (lv' := [(10, .int 1), (9, .int ((((y7_l112_22 + 1) + 1) + x3) - 1)), (8, .int ((y7_l112_22 + 1) + 1)), (7, .int (y7_l112_22 + 1)), (0, .ref x0), (1, .int x1), (2, .ref x2), (3, .int x3), (4, .int x4), (5, .int v_2), (6, .int (x1 - x3))]) C dJ3_indexOfUnsafe_158 (by decide) rfl ?_
                  have L_l160_25 : ∀ (k_l160_25 : Nat) (y8_l160_25 : Int32) (y10_l160_25 : Int32), f_J3_indexOfUnsafe_l160_25 Ev x0 x2 x3 h (f_J3_indexOfUnsafe_l94_4 Ev x0 x1 x2 x3 h v_2 k_l94_4) y7_l112_22 k_l160_25 y8_l160_25 y10_l160_25 = some r → Wa Ev X (rm_J3_indexOfUnsafe) 11 h n 0 0 (rb_MQ Ev X (rm_J3_indexOfUnsafe) (pXi .int r h n)) 160 [(0, .ref x0), (1, .int x1), (2, .ref x2), (3, .int x3), (4, .int x4), (5, .int v_2), (6, .int (x1 - x3)), (7, .int (y7_l112_22 + 1)), (8, .int y8_l160_25), (9, .int ((((y7_l112_22 + 1) + 1) + x3) - 1)), (10, .int y10_l160_25)] [] := by
                    intro k_l160_25
                    induction k_l160_25 with
                    | zero => intro y8_l160_25 y10_l160_25 hf; cases hf
                    | succ k_l160_25 ih_l160_25 =>
                      intro y8_l160_25 y10_l160_25 hf
                      rw [f_J3_indexOfUnsafe_l160_25] at hf
                      refine rb_iload C dJ3_indexOfUnsafe_160 8 rfl ?_
                      refine rb_iload C dJ3_indexOfUnsafe_162 9 rfl ?_
                      refine rb_icmp_ge (tgt := 191) C dJ3_indexOfUnsafe_164 (by decide) (fun c_26 => ?_) (fun c_26 => ?_)
                      · have hf := (if_pos c_26).symm.trans hf
                        refine rb_iload C dJ3_indexOfUnsafe_191 8 rfl ?_
                        refine rb_iload C dJ3_indexOfUnsafe_193 9 rfl ?_
                        refine rb_icmp_ne (tgt := 201) C dJ3_indexOfUnsafe_195 (by decide) (fun c_27 => ?_) (fun c_27 => ?_)
                        · have hf := (if_neg c_27).symm.trans hf
                          refine rb_iinc (v := ((y7_l112_22 + 1) + 1)) (lv' := [(7, .int ((y7_l112_22 + 1) + 1)), (0, .ref x0), (1, .int x1), (2, .ref x2), (3, .int x3), (4, .int x4), (5, .int v_2), (6, .int (x1 - x3)), (8, .int y8_l160_25), (9, .int ((((y7_l112_22 + 1) + 1) + x3) - 1)), (10, .int y10_l160_25)]) C dJ3_indexOfUnsafe_201 (k := 7) rfl rfl (by decide) rfl ?_
                          refine rb_goto (tgt := 94) C dJ3_indexOfUnsafe_204 (by decide) ?_
                          refine rb_sub [1, 2, 3, 4, 5, 6, 7, 0] rfl ?_
                          exact ih_l94_4 ((y7_l112_22 + 1) + 1) hf
                        · have hf := (if_pos c_27).symm.trans hf
                          refine rb_iload C dJ3_indexOfUnsafe_198 7 rfl ?_
                          cases hf
                          exact rb_iret C rfl rfl (Nat.zero_le _) (Nat.zero_le _) dJ3_indexOfUnsafe_200 ⟨rfl, rfl, rfl, rfl⟩
                      · have hf := (if_neg c_26).symm.trans hf
                        refine rb_aload_n C dJ3_indexOfUnsafe_167 rfl 0 rfl ?_
                        refine rb_iload C dJ3_indexOfUnsafe_168 8 rfl ?_
                        obtain ⟨v_29, e_30, hf⟩ := rb_bd hf
                        refine rb_callS (As := [.ref x0, .int y8_l160_25]) (rest := []) C mi_J3_getChar ss_J3_71 (ct_J3_getChar Ev h n x0 y8_l160_25 _ e_30) rfl rfl (Nat.le_of_ble_eq_true rfl) ⟨Nat.le_of_ble_eq_true rfl, Nat.le_of_ble_eq_true rfl, (Nat.zero_le _), (Nat.zero_le _)⟩ dJ3_indexOfUnsafe_170 rb_xXi (rb_kXi fun hn_28 => (rb_w (kc := 0) (ks := 0) rfl rfl ?_))
                        refine rb_aload_n C dJ3_indexOfUnsafe_173 rfl 2 rfl ?_
                        refine rb_iload C dJ3_indexOfUnsafe_174 10 rfl ?_
                        obtain ⟨v_32, e_33, hf⟩ := rb_bd hf
                        refine rb_callS (As := [.ref x2, .int y10_l160_25]) (rest := [.int v_29]) C mi_J3_getChar ss_J3_71 (ct_J3_getChar Ev h n x2 y10_l160_25 _ e_33) rfl rfl (Nat.le_of_ble_eq_true rfl) ⟨Nat.le_of_ble_eq_true rfl, Nat.le_of_ble_eq_true rfl, (Nat.zero_le _), (Nat.zero_le _)⟩ dJ3_indexOfUnsafe_176 rb_xXi (rb_kXi fun hn_31 => (rb_w (kc := 0) (ks := 0) rfl rfl ?_))
                        refine rb_icmp_ne (tgt := 191) C dJ3_indexOfUnsafe_179 (by decide) (fun c_34 => ?_) (fun c_34 => ?_)
                        · have hf := (if_neg c_34).symm.trans hf
                          refine rb_iload C dJ3_indexOfUnsafe_191 8 rfl ?_
                          refine rb_iload C dJ3_indexOfUnsafe_193 9 rfl ?_
                          refine rb_icmp_ne (tgt := 201) C dJ3_indexOfUnsafe_195 (by decide) (fun c_35 => ?_) (fun c_35 => ?_)
                          · have hf := (if_neg c_35).symm.trans hf
                            refine rb_iinc (v := ((y7_l112_22 + 1) + 1)) (lv' := [(7, .int ((y7_l112_22 + 1) + 1)), (0, .ref x0), (1, .int x1), (2, .ref x2), (3, .int x3), (4, .int x4), (5, .int v_2), (6, .int (x1 - x3)), (8, .int y8_l160_25), (9, .int ((((y7_l112_22 + 1) + 1) + x3) - 1)), (10, .int y10_l160_25)]) C dJ3_indexOfUnsafe_201 (k := 7) rfl rfl (by decide) rfl ?_
                            refine rb_goto (tgt := 94) C dJ3_indexOfUnsafe_204 (by decide) ?_
                            refine rb_sub [1, 2, 3, 4, 5, 6, 7, 0] rfl ?_
                            exact ih_l94_4 ((y7_l112_22 + 1) + 1) hf
                          · have hf := (if_pos c_35).symm.trans hf
                            refine rb_iload C dJ3_indexOfUnsafe_198 7 rfl ?_
                            cases hf
                            exact rb_iret C rfl rfl (Nat.zero_le _) (Nat.zero_le _) dJ3_indexOfUnsafe_200 ⟨rfl, rfl, rfl, rfl⟩
                        · have hf := (if_pos c_34).symm.trans hf
                          refine rb_iinc (v := (y8_l160_25 + 1)) (lv' := [(8, .int (y8_l160_25 + 1)), (0, .ref x0), (1, .int x1), (2, .ref x2), (3, .int x3), (4, .int x4), (5, .int v_2), (6, .int (x1 - x3)), (7, .int (y7_l112_22 + 1)), (9, .int ((((y7_l112_22 + 1) + 1) + x3) - 1)), (10, .int y10_l160_25)]) C dJ3_indexOfUnsafe_182 (k := 8) rfl rfl (by decide) rfl ?_
                          refine rb_iinc (v := (y10_l160_25 + 1)) (lv' := [(10, .int (y10_l160_25 + 1)), (8, .int (y8_l160_25 + 1)), (0, .ref x0), (1, .int x1), (2, .ref x2), (3, .int x3), (4, .int x4), (5, .int v_2), (6, .int (x1 - x3)), (7, .int (y7_l112_22 + 1)), (9, .int ((((y7_l112_22 + 1) + 1) + x3) - 1))]) C dJ3_indexOfUnsafe_185 (k := 10) rfl rfl (by decide) rfl ?_
                          refine rb_goto (tgt := 160) C dJ3_indexOfUnsafe_188 (by decide) ?_
                          refine rb_sub [2, 3, 4, 5, 6, 7, 8, 9, 1, 10, 0] rfl ?_
                          exact ih_l160_25 (y8_l160_25 + 1) (y10_l160_25 + 1) hf
                  refine rb_sub [4, 5, 6, 7, 8, 9, 10, 3, 2, 1, 0] rfl ?_
                  exact L_l160_25 4096 ((y7_l112_22 + 1) + 1) 1 hf
              · have hf := (if_neg c_23).symm.trans hf
                refine rb_aload_n C dJ3_indexOfUnsafe_122 rfl 1 rfl ?_
                refine rb_iload C dJ3_indexOfUnsafe_123 0 rfl ?_
                obtain ⟨v_37, e_38, hf⟩ := rb_bd hf
                refine rb_callS (As := [.ref x0, .int (y7_l112_22 + 1)]) (rest := []) C mi_J3_getChar ss_J3_71 (ct_J3_getChar Ev h n x0 (y7_l112_22 + 1) _ e_38) rfl rfl (Nat.le_of_ble_eq_true rfl) ⟨Nat.le_of_ble_eq_true rfl, Nat.le_of_ble_eq_true rfl, (Nat.zero_le _), (Nat.zero_le _)⟩ dJ3_indexOfUnsafe_125 rb_xXi (rb_kXi fun hn_36 => (rb_w (kc := 0) (ks := 0) rfl rfl ?_))
                refine rb_iload C dJ3_indexOfUnsafe_128 6 rfl ?_
                refine rb_icmp_eq (tgt := 136) C dJ3_indexOfUnsafe_130 (by decide) (fun c_39 => ?_) (fun c_39 => ?_)
                · have hf := (if_pos c_39).symm.trans hf
                  refine rb_iload C dJ3_indexOfUnsafe_136 0 rfl ?_
                  refine rb_iload C dJ3_indexOfUnsafe_138 7 rfl ?_
                  refine rb_icmp_gt (tgt := 201) C dJ3_indexOfUnsafe_140 (by decide) (fun c_40 => ?_) (fun c_40 => ?_)
                  · have hf := (if_pos c_40).symm.trans hf
                    refine rb_iinc (v := ((y7_l112_22 + 1) + 1)) (lv' := [(7, .int ((y7_l112_22 + 1) + 1)), (0, .ref x0), (1, .int x1), (2, .ref x2), (3, .int x3), (4, .int x4), (5, .int v_2), (6, .int (x1 - x3))]) C dJ3_indexOfUnsafe_201 (k := 0) rfl rfl (by decide) rfl ?_
                    refine rb_goto (tgt := 94) C dJ3_indexOfUnsafe_204 (by decide) ?_
                    refine rb_sub [1, 2, 3, 4, 5, 6, 7, 0] rfl ?_
                    exact ih_l94_4 ((y7_l112_22 + 1) + 1) hf
                  · have hf := (if_neg c_40).symm.trans hf
                    refine rb_iload C dJ3_indexOfUnsafe_143 0 rfl ?_
                    refine rb_iconst (v := 1) C dJ3_indexOfUnsafe_145 rfl ?_
                    refine rb_iadd C dJ3_indexOfUnsafe_146 ?_
                    refine rb_istore (lv' := [(8, .int ((y7_l112_22 + 1) + 1)), (7, .int (y7_l112_22 + 1)), (0, .ref x0), (1, .int x1), (2, .ref x2), (3, .int x3), (4, .int x4), (5, .int v_2), (6, .int (x1 - x3))]) C dJ3_indexOfUnsafe_147 (by decide) rfl ?_
                    refine rb_iload C dJ3_indexOfUnsafe_149 0 rfl ?_
                    refine rb_iload_n C dJ3_indexOfUnsafe_151 rfl 5 rfl ?_
                    refine rb_iadd C dJ3_indexOfUnsafe_152 ?_
                    refine rb_iconst (v := 1) C dJ3_indexOfUnsafe_153 rfl ?_
                    refine rb_isub C dJ3_indexOfUnsafe_154 ?_
                    refine rb_istore (lv' := [(9, .int ((((y7_l112_22 + 1) + 1) + x3) - 1)), (8, .int ((y7_l112_22 + 1) + 1)), (7, .int (y7_l112_22 + 1)), (0, .ref x0), (1, .int x1), (2, .ref x2), (3, .int x3), (4, .int x4), (5, .int v_2), (6, .int (x1 - x3))]) C dJ3_indexOfUnsafe_155 (by decide) rfl ?_
                    refine rb_iconst (v := 1) C dJ3_indexOfUnsafe_157 rfl ?_
                    refine rb_istore (lv' := [(10, .int 1), (9, .int ((((y7_l112_22 + 1) + 1) + x3) - 1)), (8, .int ((y7_l112_22 + 1) + 1)), (7, .int (y7_l112_22 + 1)), (0, .ref x0), (1, .int x1), (2, .ref x2), (3, .int x3), (4, .int x4), (5, .int v_2), (6, .int (x1 - x3))]) C dJ3_indexOfUnsafe_158 (by decide) rfl ?_
                    have L_l160_41 : ∀ (k_l160_41 : Nat) (y8_l160_41 : Int32) (y10_l160_41 : Int32), f_J3_indexOfUnsafe_l160_41 Ev x0 x2 x3 h (f_J3_indexOfUnsafe_l94_4 Ev x0 x1 x2 x3 h v_2 k_l94_4) y7_l112_22 k_l160_41 y8_l160_41 y10_l160_41 = some r → Wa Ev X (rm_J3_indexOfUnsafe) 11 h n 0 0 (rb_MQ Ev X (rm_J3_indexOfUnsafe) (pXi .int r h n)) 160 [(0, .ref x0), (1, .int x1), (2, .ref x2), (3, .int x3), (4, .int x4), (5, .int v_2), (6, .int (x1 - x3)), (7, .int (y7_l112_22 + 1)), (8, .int y8_l160_41), (9, .int ((((y7_l112_22 + 1) + 1) + x3) - 1)), (10, .int y10_l160_41)] [] := by
                      intro k_l160_41
                      induction k_l160_41 with
                      | zero => intro y8_l160_41 y10_l160_41 hf; cases hf
                      | succ k_l160_41 ih_l160_41 =>
                        intro y8_l160_41 y10_l160_41 hf
                        rw [f_J3_indexOfUnsafe_l160_41] at hf
                        refine rb_iload C dJ3_indexOfUnsafe_160 8 rfl ?_
                        refine rb_iload C dJ3_indexOfUnsafe_162 9 rfl ?_
                        refine rb_icmp_ge (tgt := 191) C dJ3_indexOfUnsafe_164 (by decide) (fun c_42 => ?_) (fun c_42 => ?_)
                        · have hf := (if_pos c_42).symm.trans hf
                          refine rb_iload C dJ3_indexOfUnsafe_191 8 rfl ?_
                          refine rb_iload C dJ3_indexOfUnsafe_193 9 rfl ?_
                          refine rb_icmp_ne (tgt := 201) C dJ3_indexOfUnsafe_195 (by decide) (fun c_43 => ?_) (fun c_43 => ?_)
                          · have hf := (if_neg c_43).symm.trans hf
                            refine rb_iinc (v := ((y7_l112_22 + 1) + 1)) (lv' := [(7, .int ((y7_l112_22 + 1) + 1)), (0, .ref x0), (1, .int x1), (2, .ref x2), (3, .int x3), (4, .int x4), (5, .int v_2), (6, .int (x1 - x3)), (8, .int y8_l160_41), (9, .int ((((y7_l112_22 + 1) + 1) + x3) - 1)), (10, .int y10_l160_41)]) C dJ3_indexOfUnsafe_201 (k := 7) rfl rfl (by decide) rfl ?_
                            refine rb_goto (tgt := 94) C dJ3_indexOfUnsafe_204 (by decide) ?_
                            refine rb_sub [1, 2, 3, 4, 5, 6, 7, 0] rfl ?_
                            exact ih_l94_4 ((y7_l112_22 + 1) + 1) hf
                          · have hf := (if_pos c_43).symm.trans hf
                            refine rb_iload C dJ3_indexOfUnsafe_198 7 rfl ?_
                            cases hf
                            exact rb_iret C rfl rfl (Nat.zero_le _) (Nat.zero_le _) dJ3_indexOfUnsafe_200 ⟨rfl, rfl, rfl, rfl⟩
                        · have hf := (if_neg c_42).symm.trans hf
                          refine rb_aload_n C dJ3_indexOfUnsafe_167 rfl 0 rfl ?_
                          refine rb_iload C dJ3_indexOfUnsafe_168 8 rfl ?_
                          obtain ⟨v_45, e_46, hf⟩ := rb_bd hf
                          refine rb_callS (As := [.ref x0, .int y8_l160_41]) (rest := []) C mi_J3_getChar ss_J3_71 (ct_J3_getChar Ev h n x0 y8_l160_41 _ e_46) rfl rfl (Nat.le_of_ble_eq_true rfl) ⟨Nat.le_of_ble_eq_true rfl, Nat.le_of_ble_eq_true rfl, (Nat.zero_le _), (Nat.zero_le _)⟩ dJ3_indexOfUnsafe_170 rb_xXi (rb_kXi fun hn_44 => (rb_w (kc := 0) (ks := 0) rfl rfl ?_))
                          refine rb_aload_n C dJ3_indexOfUnsafe_173 rfl 2 rfl ?_
                          refine rb_iload C dJ3_indexOfUnsafe_174 10 rfl ?_
                          obtain ⟨v_48, e_49, hf⟩ := rb_bd hf
                          refine rb_callS (As := [.ref x2, .int y10_l160_41]) (rest := [.int v_45]) C mi_J3_getChar ss_J3_71 (ct_J3_getChar Ev h n x2 y10_l160_41 _ e_49) rfl rfl (Nat.le_of_ble_eq_true rfl) ⟨Nat.le_of_ble_eq_true rfl, Nat.le_of_ble_eq_true rfl, (Nat.zero_le _), (Nat.zero_le _)⟩ dJ3_indexOfUnsafe_176 rb_xXi (rb_kXi fun hn_47 => (rb_w (kc := 0) (ks := 0) rfl rfl ?_))
                          refine rb_icmp_ne (tgt := 191) C dJ3_indexOfUnsafe_179 (by decide) (fun c_50 => ?_) (fun c_50 => ?_)
                          · have hf := (if_neg c_50).symm.trans hf
                            refine rb_iload C dJ3_indexOfUnsafe_191 8 rfl ?_
                            refine rb_iload C dJ3_indexOfUnsafe_193 9 rfl ?_
                            refine rb_icmp_ne (tgt := 201) C dJ3_indexOfUnsafe_195 (by decide) (fun c_51 => ?_) (fun c_51 => ?_)
                            · have hf := (if_neg c_51).symm.trans hf
                              refine rb_iinc (v := ((y7_l112_22 + 1) + 1)) (lv' := [(7, .int ((y7_l112_22 + 1) + 1)), (0, .ref x0), (1, .int x1), (2, .ref x2), (3, .int x3), (4, .int x4), (5, .int v_2), (6, .int (x1 - x3)), (8, .int y8_l160_41), (9, .int ((((y7_l112_22 + 1) + 1) + x3) - 1)), (10, .int y10_l160_41)]) C dJ3_indexOfUnsafe_201 (k := 7) rfl rfl (by decide) rfl ?_
                              refine rb_goto (tgt := 94) C dJ3_indexOfUnsafe_204 (by decide) ?_
                              refine rb_sub [1, 2, 3, 4, 5, 6, 7, 0] rfl ?_
                              exact ih_l94_4 ((y7_l112_22 + 1) + 1) hf
                            · have hf := (if_pos c_51).symm.trans hf
                              refine rb_iload C dJ3_indexOfUnsafe_198 7 rfl ?_
                              cases hf
                              exact rb_iret C rfl rfl (Nat.zero_le _) (Nat.zero_le _) dJ3_indexOfUnsafe_200 ⟨rfl, rfl, rfl, rfl⟩
                          · have hf := (if_pos c_50).symm.trans hf
                            refine rb_iinc (v := (y8_l160_41 + 1)) (lv' := [(8, .int (y8_l160_41 + 1)), (0, .ref x0), (1, .int x1), (2, .ref x2), (3, .int x3), (4, .int x4), (5, .int v_2), (6, .int (x1 - x3)), (7, .int (y7_l112_22 + 1)), (9, .int ((((y7_l112_22 + 1) + 1) + x3) - 1)), (10, .int y10_l160_41)]) C dJ3_indexOfUnsafe_182 (k := 8) rfl rfl (by decide) rfl ?_
                            refine rb_iinc (v := (y10_l160_41 + 1)) (lv' := [(10, .int (y10_l160_41 + 1)), (8, .int (y8_l160_41 + 1)), (0, .ref x0), (1, .int x1), (2, .ref x2), (3, .int x3), (4, .int x4), (5, .int v_2), (6, .int (x1 - x3)), (7, .int (y7_l112_22 + 1)), (9, .int ((((y7_l112_22 + 1) + 1) + x3) - 1))]) C dJ3_indexOfUnsafe_185 (k := 10) rfl rfl (by decide) rfl ?_
                            refine rb_goto (tgt := 160) C dJ3_indexOfUnsafe_188 (by decide) ?_
                            refine rb_sub [2, 3, 4, 5, 6, 7, 8, 9, 1, 10, 0] rfl ?_
                            exact ih_l160_41 (y8_l160_41 + 1) (y10_l160_41 + 1) hf
                    refine rb_sub [4, 5, 6, 7, 8, 9, 10, 3, 2, 1, 0] rfl ?_
                    exact L_l160_41 4096 ((y7_l112_22 + 1) + 1) 1 hf
                · have hf := (if_neg c_39).symm.trans hf
                  refine rb_goto (tgt := 112) C dJ3_indexOfUnsafe_133 (by decide) ?_
                  refine rb_sub [1, 2, 3, 4, 5, 6, 7, 0] rfl ?_
                  exact ih_l112_22 (y7_l112_22 + 1) hf
          exact L_l112_22 4096 y7_l94_4 hf
  refine rb_sub [3, 4, 5, 6, 7, 2, 1, 0] rfl ?_
  exact L_l94_4 4096 x4 hf
def f_J3_indexOf_2 (Ev : rb_E) (h : AH) (x0 : Nat) (x1 : Nat) : Option Int32 := ((hp_len Ev h x1 1).bind fun v_1 => (if (nI v_1) = 0 then (some 0) else ((hp_len Ev h x0 1).bind fun v_4 => ((hp_len Ev h x1 1).bind fun v_6 => (if (nI v_6) ≤ (nI v_4) then ((f_J3_length Ev h x0).bind fun v_10 => ((f_J3_length Ev h x1).bind fun v_13 => ((f_J3_indexOfUnsafe Ev h x0 v_10 x1 v_13 0).bind fun v_16 => (some v_16)))) else (some (-1)))))))
abbrev rm_J3_indexOf_2 : Room := { frames := 2, cells := 0, slots := 0, locals := 51 }
set_option maxHeartbeats 4000000 in
theorem ct_J3_indexOf_2 (Ev : rb_E) (h : AH) (n : Nat) (x0 : Nat) (x1 : Nat) (r : Int32) (hf : f_J3_indexOf_2 Ev h x0 x1 = some r) : Ct Ev yJ3_indexOf_2 (ws_ yJ3_indexOf_2 cJ3_indexOf_2 2 (some .int)) (rm_J3_indexOf_2) [.ref x0, .ref x1] h n (pXi .int r h n) := by
  rw [f_J3_indexOf_2] at hf
  refine Ct.of rfl (Nat.le_of_ble_eq_true rfl) fun X C hnm => ?_
  have C : Cx Ev X RJ3 cJ3_indexOf_2 2 (some .int) [] := C
  show Wa Ev X (rm_J3_indexOf_2) 2 h n 0 0 (rb_MQ Ev X (rm_J3_indexOf_2) (pXi .int r h n)) 0 [(0, .ref x0), (1, .ref x1)] []
  refine rb_aload_n C dJ3_indexOf_2_0 rfl 1 rfl ?_
  obtain ⟨v_1, e_2, hf⟩ := rb_bd hf
  refine rb_hlen (t := 1) C rfl e_2 dJ3_indexOf_2_1 ?_
  refine rb_if_ne (tgt := 7) C dJ3_indexOf_2_2 (by decide) (fun c_3 => ?_) (fun c_3 => ?_)
  · have hf := (if_neg c_3).symm.trans hf
    refine rb_aload_n C dJ3_indexOf_2_7 rfl 0 rfl ?_
    obtain ⟨v_4, e_5, hf⟩ := rb_bd hf
    refine rb_hlen (t := 1) C rfl e_5 dJ3_indexOf_2_8 ?_
    refine rb_aload_n C dJ3_indexOf_2_9 rfl 1 rfl ?_
    obtain ⟨v_6, e_7, hf⟩ := rb_bd hf
    refine rb_hlen (t := 1) C rfl e_7 dJ3_indexOf_2_10 ?_
    refine rb_icmp_ge (tgt := 16) C dJ3_indexOf_2_11 (by decide) (fun c_8 => ?_) (fun c_8 => ?_)
    · have hf := (if_pos c_8).symm.trans hf
      refine rb_aload_n C dJ3_indexOf_2_16 rfl 0 rfl ?_
      refine rb_aload_n C dJ3_indexOf_2_17 rfl 0 rfl ?_
      obtain ⟨v_10, e_11, hf⟩ := rb_bd hf
      refine rb_callS (As := [.ref x0]) (rest := [.ref x0]) C mi_J3_length ss_J3_48 (ct_J3_length Ev h n x0 _ e_11) rfl rfl (Nat.le_of_ble_eq_true rfl) ⟨Nat.le_of_ble_eq_true rfl, Nat.le_of_ble_eq_true rfl, (Nat.zero_le _), (Nat.zero_le _)⟩ dJ3_indexOf_2_18 rb_xXi (rb_kXi fun hn_9 => (rb_w (kc := 0) (ks := 0) rfl rfl ?_))
      refine rb_aload_n C dJ3_indexOf_2_21 rfl 1 rfl ?_
      refine rb_aload_n C dJ3_indexOf_2_22 rfl 1 rfl ?_
      obtain ⟨v_13, e_14, hf⟩ := rb_bd hf
      refine rb_callS (As := [.ref x1]) (rest := [.ref x1, .int v_10, .ref x0]) C mi_J3_length ss_J3_48 (ct_J3_length Ev h n x1 _ e_14) rfl rfl (Nat.le_of_ble_eq_true rfl) ⟨Nat.le_of_ble_eq_true rfl, Nat.le_of_ble_eq_true rfl, (Nat.zero_le _), (Nat.zero_le _)⟩ dJ3_indexOf_2_23 rb_xXi (rb_kXi fun hn_12 => (rb_w (kc := 0) (ks := 0) rfl rfl ?_))
      refine rb_iconst (v := 0) C dJ3_indexOf_2_26 rfl ?_
      obtain ⟨v_16, e_17, hf⟩ := rb_bd hf
      refine rb_callS (As := [.ref x0, .int v_10, .ref x1, .int v_13, .int 0]) (rest := []) C mi_J3_indexOfUnsafe ss_J3_235 (ct_J3_indexOfUnsafe Ev h n x0 v_10 x1 v_13 0 _ e_17) rfl rfl (Nat.le_of_ble_eq_true rfl) ⟨Nat.le_of_ble_eq_true rfl, Nat.le_of_ble_eq_true rfl, (Nat.zero_le _), (Nat.zero_le _)⟩ dJ3_indexOf_2_27 rb_xXi (rb_kXi fun hn_15 => (rb_w (kc := 0) (ks := 0) rfl rfl ?_))
      cases hf
      exact rb_iret C rfl rfl (Nat.zero_le _) (Nat.zero_le _) dJ3_indexOf_2_30 ⟨rfl, rfl, rfl, rfl⟩
    · have hf := (if_neg c_8).symm.trans hf
      refine rb_iconst (v := (-1)) C dJ3_indexOf_2_14 rfl ?_
      cases hf
      exact rb_iret C rfl rfl (Nat.zero_le _) (Nat.zero_le _) dJ3_indexOf_2_15 ⟨rfl, rfl, rfl, rfl⟩
  · have hf := (if_pos c_3).symm.trans hf
    refine rb_iconst (v := 0) C dJ3_indexOf_2_5 rfl ?_
    cases hf
    exact rb_iret C rfl rfl (Nat.zero_le _) (Nat.zero_le _) dJ3_indexOf_2_6 ⟨rfl, rfl, rfl, rfl⟩
def f_J11_indexOf_3_l76_9 (Ev : rb_E) (x0 : Nat) (x2 : Nat) (x3 : Int32) (h : AH) (y7_l14_3 : Int32) (rec_l14_3 : Int32 → Option Int32) : Nat → Int32 → Int32 → Option Int32
  | 0, _, _ => none
  | k_l76_9 + 1, y8_l76_9, y10_l76_9 => (if (((y7_l14_3 + 1) + x3) - 1) ≤ y8_l76_9 then (if y8_l76_9 = (((y7_l14_3 + 1) + x3) - 1) then (some y7_l14_3) else (rec_l14_3 (y7_l14_3 + 1))) else ((hp_bl Ev h x0 y8_l76_9).bind fun v_12 => ((hp_bl Ev h x2 y10_l76_9).bind fun v_14 => (if v_12 = v_14 then ((f_J11_indexOf_3_l76_9 Ev x0 x2 x3 h y7_l14_3 rec_l14_3 k_l76_9) (y8_l76_9 + 1) (y10_l76_9 + 1)) else (if y8_l76_9 = (((y7_l14_3 + 1) + x3) - 1) then (some y7_l14_3) else (rec_l14_3 (y7_l14_3 + 1)))))))
def f_J11_indexOf_3_l76_21 (Ev : rb_E) (x0 : Nat) (x2 : Nat) (x3 : Int32) (h : AH) (rec_l14_3 : Int32 → Option Int32) (y7_l30_18 : Int32) : Nat → Int32 → Int32 → Option Int32
  | 0, _, _ => none
  | k_l76_21 + 1, y8_l76_21, y10_l76_21 => (if ((((y7_l30_18 + 1) + 1) + x3) - 1) ≤ y8_l76_21 then (if y8_l76_21 = ((((y7_l30_18 + 1) + 1) + x3) - 1) then (some (y7_l30_18 + 1)) else (rec_l14_3 ((y7_l30_18 + 1) + 1))) else ((hp_bl Ev h x0 y8_l76_21).bind fun v_24 => ((hp_bl Ev h x2 y10_l76_21).bind fun v_26 => (if v_24 = v_26 then ((f_J11_indexOf_3_l76_21 Ev x0 x2 x3 h rec_l14_3 y7_l30_18 k_l76_21) (y8_l76_21 + 1) (y10_l76_21 + 1)) else (if y8_l76_21 = ((((y7_l30_18 + 1) + 1) + x3) - 1) then (some (y7_l30_18 + 1)) else (rec_l14_3 ((y7_l30_18 + 1) + 1)))))))
def f_J11_indexOf_3_l76_34 (Ev : rb_E) (x0 : Nat) (x2 : Nat) (x3 : Int32) (h : AH) (rec_l14_3 : Int32 → Option Int32) (y7_l30_18 : Int32) : Nat → Int32 → Int32 → Option Int32
  | 0, _, _ => none
  | k_l76_34 + 1, y8_l76_34, y10_l76_34 => (if ((((y7_l30_18 + 1) + 1) + x3) - 1) ≤ y8_l76_34 then (if y8_l76_34 = ((((y7_l30_18 + 1) + 1) + x3) - 1) then (some (y7_l30_18 + 1)) else (rec_l14_3 ((y7_l30_18 + 1) + 1))) else ((hp_bl Ev h x0 y8_l76_34).bind fun v_37 => ((hp_bl Ev h x2 y10_l76_34).bind fun v_39 => (if v_37 = v_39 then ((f_J11_indexOf_3_l76_34 Ev x0 x2 x3 h rec_l14_3 y7_l30_18 k_l76_34) (y8_l76_34 + 1) (y10_l76_34 + 1)) else (if y8_l76_34 = ((((y7_l30_18 + 1) + 1) + x3) - 1) then (some (y7_l30_18 + 1)) else (rec_l14_3 ((y7_l30_18 + 1) + 1)))))))
def f_J11_indexOf_3_l30_18 (Ev : rb_E) (x0 : Nat) (x1 : Int32) (x2 : Nat) (x3 : Int32) (h : AH) (v_1 : Int32) (rec_l14_3 : Int32 → Option Int32) : Nat → Int32 → Option Int32
  | 0, _ => none
  | k_l30_18 + 1, y7_l30_18 => (if (x1 - x3) < (y7_l30_18 + 1) then (if (x1 - x3) < (y7_l30_18 + 1) then (rec_l14_3 ((y7_l30_18 + 1) + 1)) else (f_J11_indexOf_3_l76_21 Ev x0 x2 x3 h rec_l14_3 y7_l30_18 4096 ((y7_l30_18 + 1) + 1) 1)) else ((hp_bl Ev h x0 (y7_l30_18 + 1)).bind fun v_30 => (if v_30 = v_1 then (if (x1 - x3) < (y7_l30_18 + 1) then (rec_l14_3 ((y7_l30_18 + 1) + 1)) else (f_J11_indexOf_3_l76_34 Ev x0 x2 x3 h rec_l14_3 y7_l30_18 4096 ((y7_l30_18 + 1) + 1) 1)) else ((f_J11_indexOf_3_l30_18 Ev x0 x1 x2 x3 h v_1 rec_l14_3 k_l30_18) (y7_l30_18 + 1)))))
def f_J11_indexOf_3_l14_3 (Ev : rb_E) (x0 : Nat) (x1 : Int32) (x2 : Nat) (x3 : Int32) (h : AH) (v_1 : Int32) : Nat → Int32 → Option Int32
  | 0, _ => none
  | k_l14_3 + 1, y7_l14_3 => (if (x1 - x3) < y7_l14_3 then (some (-1)) else ((hp_bl Ev h x0 y7_l14_3).bind fun v_5 => (if v_5 = v_1 then (if (x1 - x3) < y7_l14_3 then ((f_J11_indexOf_3_l14_3 Ev x0 x1 x2 x3 h v_1 k_l14_3) (y7_l14_3 + 1)) else (f_J11_indexOf_3_l76_9 Ev x0 x2 x3 h y7_l14_3 (f_J11_indexOf_3_l14_3 Ev x0 x1 x2 x3 h v_1 k_l14_3) 4096 (y7_l14_3 + 1) 1)) else (f_J11_indexOf_3_l30_18 Ev x0 x1 x2 x3 h v_1 (f_J11_indexOf_3_l14_3 Ev x0 x1 x2 x3 h v_1 k_l14_3) 4096 y7_l14_3))))
def f_J11_indexOf_3 (Ev : rb_E) (h : AH) (x0 : Nat) (x1 : Int32) (x2 : Nat) (x3 : Int32) (x4 : Int32) : Option Int32 := ((hp_bl Ev h x2 0).bind fun v_1 => (f_J11_indexOf_3_l14_3 Ev x0 x1 x2 x3 h v_1 4096 x4))
abbrev rm_J11_indexOf_3 : Room := { frames := 0, cells := 0, slots := 0, locals := 0 }
set_option maxHeartbeats 4000000 in
theorem ct_J11_indexOf_3 (Ev : rb_E) (h : AH) (n : Nat) (x0 : Nat) (x1 : Int32) (x2 : Nat) (x3 : Int32) (x4 : Int32) (r : Int32) (hf : f_J11_indexOf_3 Ev h x0 x1 x2 x3 x4 = some r) : Ct Ev yJ11_indexOf_3 (ws_ yJ11_indexOf_3 cJ11_indexOf_3 11 (some .int)) (rm_J11_indexOf_3) [.ref x0, .int x1, .ref x2, .int x3, .int x4] h n (pXi .int r h n) := by
  rw [f_J11_indexOf_3] at hf
  refine Ct.of rfl (Nat.le_of_ble_eq_true rfl) fun X C hnm => ?_
  have C : Cx Ev X RJ11 cJ11_indexOf_3 11 (some .int) [] := C
  show Wa Ev X (rm_J11_indexOf_3) 11 h n 0 0 (rb_MQ Ev X (rm_J11_indexOf_3) (pXi .int r h n)) 0 [(0, .ref x0), (1, .int x1), (2, .ref x2), (3, .int x3), (4, .int x4)] []
  refine rb_aload_n C dJ11_indexOf_3_0 rfl 2 rfl ?_
  refine rb_iconst (v := 0) C dJ11_indexOf_3_1 rfl ?_
  obtain ⟨v_1, e_2, hf⟩ := rb_bd hf
  refine rb_hbl C e_2 dJ11_indexOf_3_2 ?_
  refine rb_istore (lv' := [(5, .int v_1), (0, .ref x0), (1, .int x1), (2, .ref x2), (3, .int x3), (4, .int x4)]) C dJ11_indexOf_3_3 (by decide) rfl ?_
  refine rb_iload_n C dJ11_indexOf_3_5 rfl 2 rfl ?_
  refine rb_iload_n C dJ11_indexOf_3_6 rfl 4 rfl ?_
  refine rb_isub C dJ11_indexOf_3_7 ?_
  refine rb_istore (lv' := [(6, .int (x1 - x3)), (5, .int v_1), (0, .ref x0), (1, .int x1), (2, .ref x2), (3, .int x3), (4, .int x4)]) C dJ11_indexOf_3_8 (by decide) rfl ?_
  refine rb_iload C dJ11_indexOf_3_10 6 rfl ?_
  refine rb_istore (lv' := [(7, .int x4), (6, .int (x1 - x3)), (5, .int v_1), (0, .ref x0), (1, .int x1), (2, .ref x2), (3, .int x3), (4, .int x4)]) C dJ11_indexOf_3_12 (by decide) rfl ?_
  have L_l14_3 : ∀ (k_l14_3 : Nat) (y7_l14_3 : Int32), f_J11_indexOf_3_l14_3 Ev x0 x1 x2 x3 h v_1 k_l14_3 y7_l14_3 = some r → Wa Ev X (rm_J11_indexOf_3) 11 h n 0 0 (rb_MQ Ev X (rm_J11_indexOf_3) (pXi .int r h n)) 14 [(0, .ref x0), (1, .int x1), (2, .ref x2), (3, .int x3), (4, .int x4), (5, .int v_1), (6, .int (x1 - x3)), (7, .int y7_l14_3)] [] := by
    intro k_l14_3
    induction k_l14_3 with
    | zero => intro y7_l14_3 hf; cases hf
    | succ k_l14_3 ih_l14_3 =>
      intro y7_l14_3 hf
      rw [f_J11_indexOf_3_l14_3] at hf
      refine rb_iload C dJ11_indexOf_3_14 7 rfl ?_
      refine rb_iload C dJ11_indexOf_3_16 6 rfl ?_
      refine rb_icmp_gt (tgt := 119) C dJ11_indexOf_3_18 (by decide) (fun c_4 => ?_) (fun c_4 => ?_)
      · have hf := (if_pos c_4).symm.trans hf
        refine rb_iconst (v := (-1)) C dJ11_indexOf_3_119 rfl ?_
        cases hf
        exact rb_iret C rfl rfl (Nat.zero_le _) (Nat.zero_le _) dJ11_indexOf_3_120 ⟨rfl, rfl, rfl, rfl⟩
      · have hf := (if_neg c_4).symm.trans hf
        refine rb_aload_n C dJ11_indexOf_3_21 rfl 0 rfl ?_
        refine rb_iload C dJ11_indexOf_3_22 7 rfl ?_
        obtain ⟨v_5, e_6, hf⟩ := rb_bd hf
        refine rb_hbl C e_6 dJ11_indexOf_3_24 ?_
        refine rb_iload C dJ11_indexOf_3_25 5 rfl ?_
        refine rb_icmp_eq (tgt := 52) C dJ11_indexOf_3_27 (by decide) (fun c_7 => ?_) (fun c_7 => ?_)
        · have hf := (if_pos c_7).symm.trans hf
          refine rb_iload C dJ11_indexOf_3_52 7 rfl ?_
          refine rb_iload C dJ11_indexOf_3_54 6 rfl ?_
          refine rb_icmp_gt (tgt := 113) C dJ11_indexOf_3_56 (by decide) (fun c_8 => ?_) (fun c_8 => ?_)
          · have hf := (if_pos c_8).symm.trans hf
            refine rb_iinc (v := (y7_l14_3 + 1)) (lv' := [(7, .int (y7_l14_3 + 1)), (0, .ref x0), (1, .int x1), (2, .ref x2), (3, .int x3), (4, .int x4), (5, .int v_1), (6, .int (x1 - x3))]) C dJ11_indexOf_3_113 (k := 7) rfl rfl (by decide) rfl ?_
            refine rb_goto (tgt := 14) C dJ11_indexOf_3_116 (by decide) ?_
            refine rb_sub [1, 2, 3, 4, 5, 6, 7, 0] rfl ?_
            exact ih_l14_3 (y7_l14_3 + 1) hf
          · have hf := (if_neg c_8).symm.trans hf
            refine rb_iload C dJ11_indexOf_3_59 7 rfl ?_
            refine rb_iconst (v := 1) C dJ11_indexOf_3_61 rfl ?_
            refine rb_iadd C dJ11_indexOf_3_62 ?_
            refine rb_istore (lv' := [(8, .int (y7_l14_3 + 1)), (0, .ref x0), (1, .int x1), (2, .ref x2), (3, .int x3), (4, .int x4), (5, .int v_1), (6, .int (x1 - x3)), (7, .int y7_l14_3)]) C dJ11_indexOf_3_63 (by decide) rfl ?_
            refine rb_iload C dJ11_indexOf_3_65 0 rfl ?_
            refine rb_iload_n C dJ11_indexOf_3_67 rfl 4 rfl ?_
            refine rb_iadd C dJ11_indexOf_3_68 ?_
            refine rb_iconst (v := 1) C dJ11_indexOf_3_69 rfl ?_
            refine rb_isub C dJ11_indexOf_3_70 ?_
            refine rb_istore (lv' := [(9, .int (((y7_l14_3 + 1) + x3) - 1)), (8, .int (y7_l14_3 + 1)), (0, .ref x0), (1, .int x1), (2, .ref x2), (3, .int x3), (4, .int x4), (5, .int v_1), (6, .int (x1 - x3)), (7, .int y7_l14_3)]) C dJ11_indexOf_3_71 (by decide) rfl ?_
            refine rb_iconst (v := 1) C dJ11_indexOf_3_73 rfl ?_
            refine rb_istore (lv' := [(10, .int 1), (9, .int (((y7_l14_3 + 1) + x3) - 1)), (8, .int (y7_l14_3 + 1)), (0, .ref x0), (1, .int x1), (2, .ref x2), (3, .int x3), (4, .int x4), (5, .int v_1), (6, .int (x1 - x3)), (7, .int y7_l14_3)]) C dJ11_indexOf_3_74 (by decide) rfl ?_
            have L_l76_9 : ∀ (k_l76_9 : Nat) (y8_l76_9 : Int32) (y10_l76_9 : Int32), f_J11_indexOf_3_l76_9 Ev x0 x2 x3 h y7_l14_3 (f_J11_indexOf_3_l14_3 Ev x0 x1 x2 x3 h v_1 k_l14_3) k_l76_9 y8_l76_9 y10_l76_9 = some r → Wa Ev X (rm_J11_indexOf_3) 11 h n 0 0 (rb_MQ Ev X (rm_J11_indexOf_3) (pXi .int r h n)) 76 [(0, .ref x0), (1, .int x1), (2, .ref x2), (3, .int x3), (4, .int x4), (5, .int v_1), (6, .int (x1 - x3)), (7, .int y7_l14_3), (8, .int y8_l76_9), (9, .int (((y7_l14_3 + 1) + x3) - 1)), (10, .int y10_l76_9)] [] := by
              intro k_l76_9
              induction k_l76_9 with
              | zero => intro y8_l76_9 y10_l76_9 hf; cases hf
              | succ k_l76_9 ih_l76_9 =>
                intro y8_l76_9 y10_l76_9 hf
                rw [f_J11_indexOf_3_l76_9] at hf
                refine rb_iload C dJ11_indexOf_3_76 8 rfl ?_
                refine rb_iload C dJ11_indexOf_3_78 9 rfl ?_
                refine rb_icmp_ge (tgt := 103) C dJ11_indexOf_3_80 (by decide) (fun c_10 => ?_) (fun c_10 => ?_)
                · have hf := (if_pos c_10).symm.trans hf
                  refine rb_iload C dJ11_indexOf_3_103 8 rfl ?_
                  refine rb_iload C dJ11_indexOf_3_105 9 rfl ?_
                  refine rb_icmp_ne (tgt := 113) C dJ11_indexOf_3_107 (by decide) (fun c_11 => ?_) (fun c_11 => ?_)
                  · have hf := (if_neg c_11).symm.trans hf
                    refine rb_iinc (v := (y7_l14_3 + 1)) (lv' := [(7, .int (y7_l14_3 + 1)), (0, .ref x0), (1, .int x1), (2, .ref x2), (3, .int x3), (4, .int x4), (5, .int v_1), (6, .int (x1 - x3)), (8, .int y8_l76_9), (9, .int (((y7_l14_3 + 1) + x3) - 1)), (10, .int y10_l76_9)]) C dJ11_indexOf_3_113 (k := 7) rfl rfl (by decide) rfl ?_
                    refine rb_goto (tgt := 14) C dJ11_indexOf_3_116 (by decide) ?_
                    refine rb_sub [1, 2, 3, 4, 5, 6, 7, 0] rfl ?_
                    exact ih_l14_3 (y7_l14_3 + 1) hf
                  · have hf := (if_pos c_11).symm.trans hf
                    refine rb_iload C dJ11_indexOf_3_110 7 rfl ?_
                    cases hf
                    exact rb_iret C rfl rfl (Nat.zero_le _) (Nat.zero_le _) dJ11_indexOf_3_112 ⟨rfl, rfl, rfl, rfl⟩
                · have hf := (if_neg c_10).symm.trans hf
                  refine rb_aload_n C dJ11_indexOf_3_83 rfl 0 rfl ?_
                  refine rb_iload C dJ11_indexOf_3_84 8 rfl ?_
                  obtain ⟨v_12, e_13, hf⟩ := rb_bd hf
                  refine rb_hbl C e_13 dJ11_indexOf_3_86 ?_
                  refine rb_aload_n C dJ11_indexOf_3_87 rfl 2 rfl ?_
                  refine rb_iload C dJ11_indexOf_3_88 10 rfl ?_
                  obtain ⟨v_14, e_15, hf⟩ := rb_bd hf
                  refine rb_hbl C e_15 dJ11_indexOf_3_90 ?_
                  refine rb_icmp_ne (tgt := 103) C dJ11_indexOf_3_91 (by decide) (fun c_16 => ?_) (fun c_16 => ?_)
                  · have hf := (if_neg c_16).symm.trans hf
                    refine rb_iload C dJ11_indexOf_3_103 8 rfl ?_
                    refine rb_iload C dJ11_indexOf_3_105 9 rfl ?_
                    refine rb_icmp_ne (tgt := 113) C dJ11_indexOf_3_107 (by decide) (fun c_17 => ?_) (fun c_17 => ?_)
                    · have hf := (if_neg c_17).symm.trans hf
                      refine rb_iinc (v := (y7_l14_3 + 1)) (lv' := [(7, .int (y7_l14_3 + 1)), (0, .ref x0), (1, .int x1), (2, .ref x2), (3, .int x3), (4, .int x4), (5, .int v_1), (6, .int (x1 - x3)), (8, .int y8_l76_9), (9, .int (((y7_l14_3 + 1) + x3) - 1)), (10, .int y10_l76_9)]) C dJ11_indexOf_3_113 (k := 7) rfl rfl (by decide) rfl ?_
                      refine rb_goto (tgt := 14) C dJ11_indexOf_3_116 (by decide) ?_
                      refine rb_sub [1, 2, 3, 4, 5, 6, 7, 0] rfl ?_
                      exact ih_l14_3 (y7_l14_3 + 1) hf
                    · have hf := (if_pos c_17).symm.trans hf
                      refine rb_iload C dJ11_indexOf_3_110 7 rfl ?_
                      cases hf
                      exact rb_iret C rfl rfl (Nat.zero_le _) (Nat.zero_le _) dJ11_indexOf_3_112 ⟨rfl, rfl, rfl, rfl⟩
                  · have hf := (if_pos c_16).symm.trans hf
                    refine rb_iinc (v := (y8_l76_9 + 1)) (lv' := [(8, .int (y8_l76_9 + 1)), (0, .ref x0), (1, .int x1), (2, .ref x2), (3, .int x3), (4, .int x4), (5, .int v_1), (6, .int (x1 - x3)), (7, .int y7_l14_3), (9, .int (((y7_l14_3 + 1) + x3) - 1)), (10, .int y10_l76_9)]) C dJ11_indexOf_3_94 (k := 8) rfl rfl (by decide) rfl ?_
                    refine rb_iinc (v := (y10_l76_9 + 1)) (lv' := [(10, .int (y10_l76_9 + 1)), (8, .int (y8_l76_9 + 1)), (0, .ref x0), (1, .int x1), (2, .ref x2), (3, .int x3), (4, .int x4), (5, .int v_1), (6, .int (x1 - x3)), (7, .int y7_l14_3), (9, .int (((y7_l14_3 + 1) + x3) - 1))]) C dJ11_indexOf_3_97 (k := 10) rfl rfl (by decide) rfl ?_
                    refine rb_goto (tgt := 76) C dJ11_indexOf_3_100 (by decide) ?_
                    refine rb_sub [2, 3, 4, 5, 6, 7, 8, 9, 1, 10, 0] rfl ?_
                    exact ih_l76_9 (y8_l76_9 + 1) (y10_l76_9 + 1) hf
            refine rb_sub [3, 4, 5, 6, 7, 8, 9, 10, 2, 1, 0] rfl ?_
            exact L_l76_9 4096 (y7_l14_3 + 1) 1 hf
        · have hf := (if_neg c_7).symm.trans hf
          have L_l30_18 : ∀ (k_l30_18 : Nat) (y7_l30_18 : Int32), f_J11_indexOf_3_l30_18 Ev x0 x1 x2 x3 h v_1 (f_J11_indexOf_3_l14_3 Ev x0 x1 x2 x3 h v_1 k_l14_3) k_l30_18 y7_l30_18 = some r → Wa Ev X (rm_J11_indexOf_3) 11 h n 0 0 (rb_MQ Ev X (rm_J11_indexOf_3) (pXi .int r h n)) 30 [(0, .ref x0), (1, .int x1), (2, .ref x2), (3, .int x3), (4, .int x4), (5, .int v_1), (6, .int (x1 - x3)), (7, .int y7_l30_18)] [] := by
            intro k_l30_18
            induction k_l30_18 with
            | zero => intro y7_l30_18 hf; cases hf
            | succ k_l30_18 ih_l30_18 =>
              intro y7_l30_18 hf
              rw [f_J11_indexOf_3_l30_18] at hf
              refine rb_iinc (v := (y7_l30_18 + 1)) (lv' := [(7, .int (y7_l30_18 + 1)), (0, .ref x0), (1, .int x1), (2, .ref x2), (3, .int x3), (4, .int x4), (5, .int v_1), (6, .int (x1 - x3))]) C dJ11_indexOf_3_30 (k := 7) rfl rfl (by decide) rfl ?_
              refine rb_iload C dJ11_indexOf_3_33 0 rfl ?_
              refine rb_iload C dJ11_indexOf_3_35 7 rfl ?_
              refine rb_icmp_gt (tgt := 52) C dJ11_indexOf_3_37 (by decide) (fun c_19 => ?_) (fun c_19 => ?_)
              · have hf := (if_pos c_19).symm.trans hf
                refine rb_iload C dJ11_indexOf_3_52 0 rfl ?_
                refine rb_iload C dJ11_indexOf_3_54 7 rfl ?_
                refine rb_icmp_gt (tgt := 113) C dJ11_indexOf_3_56 (by decide) (fun c_20 => ?_) (fun c_20 => ?_)
                · have hf := (if_pos c_20).symm.trans hf
                  refine rb_iinc (v := ((y7_l30_18 + 1) + 1)) (lv' := [(7, .int ((y7_l30_18 + 1) + 1)), (0, .ref x0), (1, .int x1), (2, .ref x2), (3, .int x3), (4, .int x4), (5, .int v_1), (6, .int (x1 - x3))]) C dJ11_indexOf_3_113 (k := 0) rfl rfl (by decide) rfl ?_
                  refine rb_goto (tgt := 14) C dJ11_indexOf_3_116 (by decide) ?_
                  refine rb_sub [1, 2, 3, 4, 5, 6, 7, 0] rfl ?_
                  exact ih_l14_3 ((y7_l30_18 + 1) + 1) hf
                · have hf := (if_neg c_20).symm.trans hf
                  refine rb_iload C dJ11_indexOf_3_59 0 rfl ?_
                  refine rb_iconst (v := 1) C dJ11_indexOf_3_61 rfl ?_
                  refine rb_iadd C dJ11_indexOf_3_62 ?_
                  refine rb_istore (lv' := [(8, .int ((y7_l30_18 + 1) + 1)), (7, .int (y7_l30_18 + 1)), (0, .ref x0), (1, .int x1), (2, .ref x2), (3, .int x3), (4, .int x4), (5, .int v_1), (6, .int (x1 - x3))]) C dJ11_indexOf_3_63 (by decide) rfl ?_
                  refine rb_iload C dJ11_indexOf_3_65 0 rfl ?_
                  refine rb_iload_n C dJ11_indexOf_3_67 rfl 5 rfl ?_
                  refine rb_iadd C dJ11_indexOf_3_68 ?_
                  refine rb_iconst (v := 1) C dJ11_indexOf_3_69 rfl ?_
                  refine rb_isub C dJ11_indexOf_3_70 ?_
                  refine rb_istore (lv' := [(9, .int ((((y7_l30_18 + 1) + 1) + x3) - 1)), (8, .int ((y7_l30_18 + 1) + 1)), (7, .int (y7_l30_18 + 1)), (0, .ref x0), (1, .int x1), (2, .ref x2), (3, .int x3), (4, .int x4), (5, .int v_1), (6, .int (x1 - x3))]) C dJ11_indexOf_3_71 (by decide) rfl ?_
                  refine rb_iconst (v := 1) C dJ11_indexOf_3_73 rfl ?_
                  refine rb_istore (lv' := [(10, .int 1), (9, .int ((((y7_l30_18 + 1) + 1) + x3) - 1)), (8, .int ((y7_l30_18 + 1) + 1)), (7, .int (y7_l30_18 + 1)), (0, .ref x0), (1, .int x1), (2, .ref x2), (3, .int x3), (4, .int x4), (5, .int v_1), (6, .int (x1 - x3))]) C dJ11_indexOf_3_74 (by decide) rfl ?_
                  have L_l76_21 : ∀ (k_l76_21 : Nat) (y8_l76_21 : Int32) (y10_l76_21 : Int32), f_J11_indexOf_3_l76_21 Ev x0 x2 x3 h (f_J11_indexOf_3_l14_3 Ev x0 x1 x2 x3 h v_1 k_l14_3) y7_l30_18 k_l76_21 y8_l76_21 y10_l76_21 = some r → Wa Ev X (rm_J11_indexOf_3) 11 h n 0 0 (rb_MQ Ev X (rm_J11_indexOf_3) (pXi .int r h n)) 76 [(0, .ref x0), (1, .int x1), (2, .ref x2), (3, .int x3), (4, .int x4), (5, .int v_1), (6, .int (x1 - x3)), (7, .int (y7_l30_18 + 1)), (8, .int y8_l76_21), (9, .int ((((y7_l30_18 + 1) + 1) + x3) - 1)), (10, .int y10_l76_21)] [] := by
                    intro k_l76_21
                    induction k_l76_21 with
                    | zero => intro y8_l76_21 y10_l76_21 hf; cases hf
                    | succ k_l76_21 ih_l76_21 =>
                      intro y8_l76_21 y10_l76_21 hf
                      rw [f_J11_indexOf_3_l76_21] at hf
                      refine rb_iload C dJ11_indexOf_3_76 8 rfl ?_
                      refine rb_iload C dJ11_indexOf_3_78 9 rfl ?_
                      refine rb_icmp_ge (tgt := 103) C dJ11_indexOf_3_80 (by decide) (fun c_22 => ?_) (fun c_22 => ?_)
                      · have hf := (if_pos c_22).symm.trans hf
                        refine rb_iload C dJ11_indexOf_3_103 8 rfl ?_
                        refine rb_iload C dJ11_indexOf_3_105 9 rfl ?_
                        refine rb_icmp_ne (tgt := 113) C dJ11_indexOf_3_107 (by decide) (fun c_23 => ?_) (fun c_23 => ?_)
                        · have hf := (if_neg c_23).symm.trans hf
                          refine rb_iinc (v := ((y7_l30_18 + 1) + 1)) (lv' := [(7, .int ((y7_l30_18 + 1) + 1)), (0, .ref x0), (1, .int x1), (2, .ref x2), (3, .int x3), (4, .int x4), (5, .int v_1), (6, .int (x1 - x3)), (8, .int y8_l76_21), (9, .int ((((y7_l30_18 + 1) + 1) + x3) - 1)), (10, .int y10_l76_21)]) C dJ11_indexOf_3_113 (k := 7) rfl rfl (by decide) rfl ?_
                          refine rb_goto (tgt := 14) C dJ11_indexOf_3_116 (by decide) ?_
                          refine rb_sub [1, 2, 3, 4, 5, 6, 7, 0] rfl ?_
                          exact ih_l14_3 ((y7_l30_18 + 1) + 1) hf
                        · have hf := (if_pos c_23).symm.trans hf
                          refine rb_iload C dJ11_indexOf_3_110 7 rfl ?_
                          cases hf
                          exact rb_iret C rfl rfl (Nat.zero_le _) (Nat.zero_le _) dJ11_indexOf_3_112 ⟨rfl, rfl, rfl, rfl⟩
                      · have hf := (if_neg c_22).symm.trans hf
                        refine rb_aload_n C dJ11_indexOf_3_83 rfl 0 rfl ?_
                        refine rb_iload C dJ11_indexOf_3_84 8 rfl ?_
                        obtain ⟨v_24, e_25, hf⟩ := rb_bd hf
                        refine rb_hbl C e_25 dJ11_indexOf_3_86 ?_
                        refine rb_aload_n C dJ11_indexOf_3_87 rfl 2 rfl ?_
                        refine rb_iload C dJ11_indexOf_3_88 10 rfl ?_
                        obtain ⟨v_26, e_27, hf⟩ := rb_bd hf
                        refine rb_hbl C e_27 dJ11_indexOf_3_90 ?_
                        refine rb_icmp_ne (tgt := 103) C dJ11_indexOf_3_91 (by decide) (fun c_28 => ?_) (fun c_28 => ?_)
                        · have hf := (if_neg c_28).symm.trans hf
                          refine rb_iload C dJ11_indexOf_3_103 8 rfl ?_
                          refine rb_iload C dJ11_indexOf_3_105 9 rfl ?_
                          refine rb_icmp_ne (tgt := 113) C dJ11_indexOf_3_107 (by decide) (fun c_29 => ?_) (fun c_29 => ?_)
                          · have hf := (if_neg c_29).symm.trans hf
                            refine rb_iinc (v := ((y7_l30_18 + 1) + 1)) (lv' := [(7, .int ((y7_l30_18 + 1) + 1)), (0, .ref x0), (1, .int x1), (2, .ref x2), (3, .int x3), (4, .int x4), (5, .int v_1), (6, .int (x1 - x3)), (8, .int y8_l76_21), (9, .int ((((y7_l30_18 + 1) + 1) + x3) - 1)), (10, .int y10_l76_21)]) C dJ11_indexOf_3_113 (k := 7) rfl rfl (by decide) rfl ?_
                            refine rb_goto (tgt := 14) C dJ11_indexOf_3_116 (by decide) ?_
                            refine rb_sub [1, 2, 3, 4, 5, 6, 7, 0] rfl ?_
                            exact ih_l14_3 ((y7_l30_18 + 1) + 1) hf
                          · have hf := (if_pos c_29).symm.trans hf
                            refine rb_iload C dJ11_indexOf_3_110 7 rfl ?_
                            cases hf
                            exact rb_iret C rfl rfl (Nat.zero_le _) (Nat.zero_le _) dJ11_indexOf_3_112 ⟨rfl, rfl, rfl, rfl⟩
                        · have hf := (if_pos c_28).symm.trans hf
                          refine rb_iinc (v := (y8_l76_21 + 1)) (lv' := [(8, .int (y8_l76_21 + 1)), (0, .ref x0), (1, .int x1), (2, .ref x2), (3, .int x3), (4, .int x4), (5, .int v_1), (6, .int (x1 - x3)), (7, .int (y7_l30_18 + 1)), (9, .int ((((y7_l30_18 + 1) + 1) + x3) - 1)), (10, .int y10_l76_21)]) C dJ11_indexOf_3_94 (k := 8) rfl rfl (by decide) rfl ?_
                          refine rb_iinc (v := (y10_l76_21 + 1)) (lv' := [(10, .int (y10_l76_21 + 1)), (8, .int (y8_l76_21 + 1)), (0, .ref x0), (1, .int x1), (2, .ref x2), (3, .int x3), (4, .int x4), (5, .int v_1), (6, .int (x1 - x3)), (7, .int (y7_l30_18 + 1)), (9, .int ((((y7_l30_18 + 1) + 1) + x3) - 1))]) C dJ11_indexOf_3_97 (k := 10) rfl rfl (by decide) rfl ?_
                          refine rb_goto (tgt := 76) C dJ11_indexOf_3_100 (by decide) ?_
                          refine rb_sub [2, 3, 4, 5, 6, 7, 8, 9, 1, 10, 0] rfl ?_
                          exact ih_l76_21 (y8_l76_21 + 1) (y10_l76_21 + 1) hf
                  refine rb_sub [4, 5, 6, 7, 8, 9, 10, 3, 2, 1, 0] rfl ?_
                  exact L_l76_21 4096 ((y7_l30_18 + 1) + 1) 1 hf
              · have hf := (if_neg c_19).symm.trans hf
                refine rb_aload_n C dJ11_indexOf_3_40 rfl 1 rfl ?_
                refine rb_iload C dJ11_indexOf_3_41 0 rfl ?_
                obtain ⟨v_30, e_31, hf⟩ := rb_bd hf
                refine rb_hbl C e_31 dJ11_indexOf_3_43 ?_
                refine rb_iload C dJ11_indexOf_3_44 6 rfl ?_
                refine rb_icmp_eq (tgt := 52) C dJ11_indexOf_3_46 (by decide) (fun c_32 => ?_) (fun c_32 => ?_)
                · have hf := (if_pos c_32).symm.trans hf
                  refine rb_iload C dJ11_indexOf_3_52 0 rfl ?_
                  refine rb_iload C dJ11_indexOf_3_54 7 rfl ?_
                  refine rb_icmp_gt (tgt := 113) C dJ11_indexOf_3_56 (by decide) (fun c_33 => ?_) (fun c_33 => ?_)
                  · have hf := (if_pos c_33).symm.trans hf
                    refine rb_iinc (v := ((y7_l30_18 + 1) + 1)) (lv' := [(7, .int ((y7_l30_18 + 1) + 1)), (0, .ref x0), (1, .int x1), (2, .ref x2), (3, .int x3), (4, .int x4), (5, .int v_1), (6, .int (x1 - x3))]) C dJ11_indexOf_3_113 (k := 0) rfl rfl (by decide) rfl ?_
                    refine rb_goto (tgt := 14) C dJ11_indexOf_3_116 (by decide) ?_
                    refine rb_sub [1, 2, 3, 4, 5, 6, 7, 0] rfl ?_
                    exact ih_l14_3 ((y7_l30_18 + 1) + 1) hf
                  · have hf := (if_neg c_33).symm.trans hf
                    refine rb_iload C dJ11_indexOf_3_59 0 rfl ?_
                    refine rb_iconst (v := 1) C dJ11_indexOf_3_61 rfl ?_
                    refine rb_iadd C dJ11_indexOf_3_62 ?_
                    refine rb_istore (lv' := [(8, .int ((y7_l30_18 + 1) + 1)), (7, .int (y7_l30_18 + 1)), (0, .ref x0), (1, .int x1), (2, .ref x2), (3, .int x3), (4, .int x4), (5, .int v_1), (6, .int (x1 - x3))]) C dJ11_indexOf_3_63 (by decide) rfl ?_
                    refine rb_iload C dJ11_indexOf_3_65 0 rfl ?_
                    refine rb_iload_n C dJ11_indexOf_3_67 rfl 5 rfl ?_
                    refine rb_iadd C dJ11_indexOf_3_68 ?_
                    refine rb_iconst (v := 1) C dJ11_indexOf_3_69 rfl ?_
                    refine rb_isub C dJ11_indexOf_3_70 ?_
                    refine rb_istore (lv' := [(9, .int ((((y7_l30_18 + 1) + 1) + x3) - 1)), (8, .int ((y7_l30_18 + 1) + 1)), (7, .int (y7_l30_18 + 1)), (0, .ref x0), (1, .int x1), (2, .ref x2), (3, .int x3), (4, .int x4), (5, .int v_1), (6, .int (x1 - x3))]) C dJ11_indexOf_3_71 (by decide) rfl ?_
                    refine rb_iconst (v := 1) C dJ11_indexOf_3_73 rfl ?_
                    refine rb_istore (lv' := [(10, .int 1), (9, .int ((((y7_l30_18 + 1) + 1) + x3) - 1)), (8, .int ((y7_l30_18 + 1) + 1)), (7, .int (y7_l30_18 + 1)), (0, .ref x0), (1, .int x1), (2, .ref x2), (3, .int x3), (4, .int x4), (5, .int v_1), (6, .int (x1 - x3))]) C dJ11_indexOf_3_74 (by decide) rfl ?_
                    have L_l76_34 : ∀ (k_l76_34 : Nat) (y8_l76_34 : Int32) (y10_l76_34 : Int32), f_J11_indexOf_3_l76_34 Ev x0 x2 x3 h (f_J11_indexOf_3_l14_3 Ev x0 x1 x2 x3 h v_1 k_l14_3) y7_l30_18 k_l76_34 y8_l76_34 y10_l76_34 = some r → Wa Ev X (rm_J11_indexOf_3) 11 h n 0 0 (rb_MQ Ev X (rm_J11_indexOf_3) (pXi .int r h n)) 76 [(0, .ref x0), (1, .int x1), (2, .ref x2), (3, .int x3), (4, .int x4), (5, .int v_1), (6, .int (x1 - x3)), (7, .int (y7_l30_18 + 1)), (8, .int y8_l76_34), (9, .int ((((y7_l30_18 + 1) + 1) + x3) - 1)), (10, .int y10_l76_34)] [] := by
                      intro k_l76_34
                      induction k_l76_34 with
                      | zero => intro y8_l76_34 y10_l76_34 hf; cases hf
                      | succ k_l76_34 ih_l76_34 =>
                        intro y8_l76_34 y10_l76_34 hf
                        rw [f_J11_indexOf_3_l76_34] at hf
                        refine rb_iload C dJ11_indexOf_3_76 8 rfl ?_
                        refine rb_iload C dJ11_indexOf_3_78 9 rfl ?_
                        refine rb_icmp_ge (tgt := 103) C dJ11_indexOf_3_80 (by decide) (fun c_35 => ?_) (fun c_35 => ?_)
                        · have hf := (if_pos c_35).symm.trans hf
                          refine rb_iload C dJ11_indexOf_3_103 8 rfl ?_
                          refine rb_iload C dJ11_indexOf_3_105 9 rfl ?_
                          refine rb_icmp_ne (tgt := 113) C dJ11_indexOf_3_107 (by decide) (fun c_36 => ?_) (fun c_36 => ?_)
                          · have hf := (if_neg c_36).symm.trans hf
                            refine rb_iinc (v := ((y7_l30_18 + 1) + 1)) (lv' := [(7, .int ((y7_l30_18 + 1) + 1)), (0, .ref x0), (1, .int x1), (2, .ref x2), (3, .int x3), (4, .int x4), (5, .int v_1), (6, .int (x1 - x3)), (8, .int y8_l76_34), (9, .int ((((y7_l30_18 + 1) + 1) + x3) - 1)), (10, .int y10_l76_34)]) C dJ11_indexOf_3_113 (k := 7) rfl rfl (by decide) rfl ?_
                            refine rb_goto (tgt := 14) C dJ11_indexOf_3_116 (by decide) ?_
                            refine rb_sub [1, 2, 3, 4, 5, 6, 7, 0] rfl ?_
                            exact ih_l14_3 ((y7_l30_18 + 1) + 1) hf
                          · have hf := (if_pos c_36).symm.trans hf
                            refine rb_iload C dJ11_indexOf_3_110 7 rfl ?_
                            cases hf
                            exact rb_iret C rfl rfl (Nat.zero_le _) (Nat.zero_le _) dJ11_indexOf_3_112 ⟨rfl, rfl, rfl, rfl⟩
                        · have hf := (if_neg c_35).symm.trans hf
                          refine rb_aload_n C dJ11_indexOf_3_83 rfl 0 rfl ?_
                          refine rb_iload C dJ11_indexOf_3_84 8 rfl ?_
                          obtain ⟨v_37, e_38, hf⟩ := rb_bd hf
                          refine rb_hbl C e_38 dJ11_indexOf_3_86 ?_
                          refine rb_aload_n C dJ11_indexOf_3_87 rfl 2 rfl ?_
                          refine rb_iload C dJ11_indexOf_3_88 10 rfl ?_
                          obtain ⟨v_39, e_40, hf⟩ := rb_bd hf
                          refine rb_hbl C e_40 dJ11_indexOf_3_90 ?_
                          refine rb_icmp_ne (tgt := 103) C dJ11_indexOf_3_91 (by decide) (fun c_41 => ?_) (fun c_41 => ?_)
                          · have hf := (if_neg c_41).symm.trans hf
                            refine rb_iload C dJ11_indexOf_3_103 8 rfl ?_
                            refine rb_iload C dJ11_indexOf_3_105 9 rfl ?_
                            refine rb_icmp_ne (tgt := 113) C dJ11_indexOf_3_107 (by decide) (fun c_42 => ?_) (fun c_42 => ?_)
                            · have hf := (if_neg c_42).symm.trans hf
                              refine rb_iinc (v := ((y7_l30_18 + 1) + 1)) (lv' := [(7, .int ((y7_l30_18 + 1) + 1)), (0, .ref x0), (1, .int x1), (2, .ref x2), (3, .int x3), (4, .int x4), (5, .int v_1), (6, .int (x1 - x3)), (8, .int y8_l76_34), (9, .int ((((y7_l30_18 + 1) + 1) + x3) - 1)), (10, .int y10_l76_34)]) C dJ11_indexOf_3_113 (k := 7) rfl rfl (by decide) rfl ?_
                              refine rb_goto (tgt := 14) C dJ11_indexOf_3_116 (by decide) ?_
                              refine rb_sub [1, 2, 3, 4, 5, 6, 7, 0] rfl ?_
                              exact ih_l14_3 ((y7_l30_18 + 1) + 1) hf
                            · have hf := (if_pos c_42).symm.trans hf
                              refine rb_iload C dJ11_indexOf_3_110 7 rfl ?_
                              cases hf
                              exact rb_iret C rfl rfl (Nat.zero_le _) (Nat.zero_le _) dJ11_indexOf_3_112 ⟨rfl, rfl, rfl, rfl⟩
                          · have hf := (if_pos c_41).symm.trans hf
                            refine rb_iinc (v := (y8_l76_34 + 1)) (lv' := [(8, .int (y8_l76_34 + 1)), (0, .ref x0), (1, .int x1), (2, .ref x2), (3, .int x3), (4, .int x4), (5, .int v_1), (6, .int (x1 - x3)), (7, .int (y7_l30_18 + 1)), (9, .int ((((y7_l30_18 + 1) + 1) + x3) - 1)), (10, .int y10_l76_34)]) C dJ11_indexOf_3_94 (k := 8) rfl rfl (by decide) rfl ?_
                            refine rb_iinc (v := (y10_l76_34 + 1)) (lv' := [(10, .int (y10_l76_34 + 1)), (8, .int (y8_l76_34 + 1)), (0, .ref x0), (1, .int x1), (2, .ref x2), (3, .int x3), (4, .int x4), (5, .int v_1), (6, .int (x1 - x3)), (7, .int (y7_l30_18 + 1)), (9, .int ((((y7_l30_18 + 1) + 1) + x3) - 1))]) C dJ11_indexOf_3_97 (k := 10) rfl rfl (by decide) rfl ?_
                            refine rb_goto (tgt := 76) C dJ11_indexOf_3_100 (by decide) ?_
                            refine rb_sub [2, 3, 4, 5, 6, 7, 8, 9, 1, 10, 0] rfl ?_
                            exact ih_l76_34 (y8_l76_34 + 1) (y10_l76_34 + 1) hf
                    refine rb_sub [4, 5, 6, 7, 8, 9, 10, 3, 2, 1, 0] rfl ?_
                    exact L_l76_34 4096 ((y7_l30_18 + 1) + 1) 1 hf
                · have hf := (if_neg c_32).symm.trans hf
                  refine rb_goto (tgt := 30) C dJ11_indexOf_3_49 (by decide) ?_
                  refine rb_sub [1, 2, 3, 4, 5, 6, 7, 0] rfl ?_
                  exact ih_l30_18 (y7_l30_18 + 1) hf
          exact L_l30_18 4096 y7_l14_3 hf
  refine rb_sub [3, 4, 5, 6, 7, 2, 1, 0] rfl ?_
  exact L_l14_3 4096 x4 hf
def f_J11_indexOf_2 (Ev : rb_E) (h : AH) (x0 : Nat) (x1 : Nat) : Option Int32 := ((hp_len Ev h x1 1).bind fun v_1 => (if (nI v_1) = 0 then (some 0) else ((hp_len Ev h x0 1).bind fun v_4 => (if (nI v_4) = 0 then (some (-1)) else ((hp_len Ev h x0 1).bind fun v_7 => ((hp_len Ev h x1 1).bind fun v_9 => ((f_J11_indexOf_3 Ev h x0 (nI v_7) x1 (nI v_9) 0).bind fun v_12 => (some v_12))))))))
abbrev rm_J11_indexOf_2 : Room := { frames := 1, cells := 0, slots := 0, locals := 30 }
set_option maxHeartbeats 4000000 in
theorem ct_J11_indexOf_2 (Ev : rb_E) (h : AH) (n : Nat) (x0 : Nat) (x1 : Nat) (r : Int32) (hf : f_J11_indexOf_2 Ev h x0 x1 = some r) : Ct Ev yJ11_indexOf_2 (ws_ yJ11_indexOf_2 cJ11_indexOf_2 2 (some .int)) (rm_J11_indexOf_2) [.ref x0, .ref x1] h n (pXi .int r h n) := by
  rw [f_J11_indexOf_2] at hf
  refine Ct.of rfl (Nat.le_of_ble_eq_true rfl) fun X C hnm => ?_
  have C : Cx Ev X RJ11 cJ11_indexOf_2 2 (some .int) [] := C
  show Wa Ev X (rm_J11_indexOf_2) 2 h n 0 0 (rb_MQ Ev X (rm_J11_indexOf_2) (pXi .int r h n)) 0 [(0, .ref x0), (1, .ref x1)] []
  refine rb_aload_n C dJ11_indexOf_2_0 rfl 1 rfl ?_
  obtain ⟨v_1, e_2, hf⟩ := rb_bd hf
  refine rb_hlen (t := 1) C rfl e_2 dJ11_indexOf_2_1 ?_
  refine rb_if_ne (tgt := 7) C dJ11_indexOf_2_2 (by decide) (fun c_3 => ?_) (fun c_3 => ?_)
  · have hf := (if_neg c_3).symm.trans hf
    refine rb_aload_n C dJ11_indexOf_2_7 rfl 0 rfl ?_
    obtain ⟨v_4, e_5, hf⟩ := rb_bd hf
    refine rb_hlen (t := 1) C rfl e_5 dJ11_indexOf_2_8 ?_
    refine rb_if_ne (tgt := 14) C dJ11_indexOf_2_9 (by decide) (fun c_6 => ?_) (fun c_6 => ?_)
    · have hf := (if_neg c_6).symm.trans hf
      refine rb_aload_n C dJ11_indexOf_2_14 rfl 0 rfl ?_
      refine rb_aload_n C dJ11_indexOf_2_15 rfl 0 rfl ?_
      obtain ⟨v_7, e_8, hf⟩ := rb_bd hf
      refine rb_hlen (t := 1) C rfl e_8 dJ11_indexOf_2_16 ?_
      refine rb_aload_n C dJ11_indexOf_2_17 rfl 1 rfl ?_
      refine rb_aload_n C dJ11_indexOf_2_18 rfl 1 rfl ?_
      obtain ⟨v_9, e_10, hf⟩ := rb_bd hf
      refine rb_hlen (t := 1) C rfl e_10 dJ11_indexOf_2_19 ?_
      refine rb_iconst (v := 0) C dJ11_indexOf_2_20 rfl ?_
      obtain ⟨v_12, e_13, hf⟩ := rb_bd hf
      refine rb_callS (As := [.ref x0, .int (nI v_7), .ref x1, .int (nI v_9), .int 0]) (rest := []) C mi_J11_indexOf_3 ss_J11_99 (ct_J11_indexOf_3 Ev h n x0 (nI v_7) x1 (nI v_9) 0 _ e_13) rfl rfl (Nat.le_of_ble_eq_true rfl) ⟨Nat.le_of_ble_eq_true rfl, Nat.le_of_ble_eq_true rfl, (Nat.zero_le _), (Nat.zero_le _)⟩ dJ11_indexOf_2_21 rb_xXi (rb_kXi fun hn_11 => (rb_w (kc := 0) (ks := 0) rfl rfl ?_))
      cases hf
      exact rb_iret C rfl rfl (Nat.zero_le _) (Nat.zero_le _) dJ11_indexOf_2_24 ⟨rfl, rfl, rfl, rfl⟩
    · have hf := (if_pos c_6).symm.trans hf
      refine rb_iconst (v := (-1)) C dJ11_indexOf_2_12 rfl ?_
      cases hf
      exact rb_iret C rfl rfl (Nat.zero_le _) (Nat.zero_le _) dJ11_indexOf_2_13 ⟨rfl, rfl, rfl, rfl⟩
  · have hf := (if_pos c_3).symm.trans hf
    refine rb_iconst (v := 0) C dJ11_indexOf_2_5 rfl ?_
    cases hf
    exact rb_iret C rfl rfl (Nat.zero_le _) (Nat.zero_le _) dJ11_indexOf_2_6 ⟨rfl, rfl, rfl, rfl⟩
def f_J2_indexOf_3 (Ev : rb_E) (h : AH) (o : Nat) (x1 : Nat) : Option Int32 := ((hp_k Ev h o 14).bind fun u_1 => ((f_J2_coder Ev h o).bind fun v_4 => ((hp_k Ev h x1 14).bind fun u_6 => ((f_J2_coder Ev h x1).bind fun v_9 => (if v_4 = v_9 then ((hp_k Ev h o 14).bind fun u_20 => ((f_J2_isLatin1 Ev h o).bind fun v_23 => (if v_23 = 0 then ((hp_p Ev h o 14 0).bind fun v_26 => ((hp_p Ev h x1 14 0).bind fun v_28 => ((f_J3_indexOf_2 Ev h v_26 v_28).bind fun v_31 => (some v_31)))) else ((hp_p Ev h o 14 0).bind fun v_33 => ((hp_p Ev h x1 14 0).bind fun v_35 => ((f_J11_indexOf_2 Ev h v_33 v_35).bind fun v_38 => (some v_38))))))) else (if v_4 = 0 then (some (-1)) else ((hp_p Ev h o 14 0).bind fun v_13 => ((hp_p Ev h x1 14 0).bind fun v_15 => ((f_J3_indexOfLatin1 Ev h v_13 v_15).bind fun v_18 => (some v_18))))))))))
abbrev rm_J2_indexOf_3 : Room := { frames := 3, cells := 0, slots := 0, locals := 72 }
set_option maxHeartbeats 4000000 in
theorem ct_J2_indexOf_3 (Ev : rb_E) (h : AH) (n : Nat) (o : Nat) (x1 : Nat) (r : Int32) (hf : f_J2_indexOf_3 Ev h o x1 = some r) : Ct Ev yJ2_indexOf_3 (ws_ yJ2_indexOf_3 cJ2_indexOf_3 3 (some .int)) (rm_J2_indexOf_3) [.ref o, .ref x1] h n (pXi .int r h n) := by
  rw [f_J2_indexOf_3] at hf
  refine Ct.of rfl (Nat.le_of_ble_eq_true rfl) fun X C hnm => ?_
  have C : Cx Ev X RJ2 cJ2_indexOf_3 3 (some .int) [] := C
  show Wa Ev X (rm_J2_indexOf_3) 3 h n 0 0 (rb_MQ Ev X (rm_J2_indexOf_3) (pXi .int r h n)) 0 [(0, .ref o), (1, .ref x1)] []
  refine rb_aload_n C dJ2_indexOf_3_0 rfl 0 rfl ?_
  obtain ⟨u_1, e_2, hf⟩ := rb_bd hf
  obtain ⟨v_4, e_5, hf⟩ := rb_bd hf
  refine rb_callV (As := []) (rest := []) C mi_J2_coder sv_J2_335 (hp_k_isC C.pf e_2 ck_J2) (ct_J2_coder Ev h n o _ e_5) rfl rfl (Nat.le_of_ble_eq_true rfl) ⟨Nat.le_of_ble_eq_true rfl, Nat.le_of_ble_eq_true rfl, (Nat.zero_le _), (Nat.zero_le _)⟩ dJ2_indexOf_3_1 rb_xXi (rb_kXi fun hn_3 => (rb_w (kc := 0) (ks := 0) rfl rfl ?_))
  refine rb_istore_n (lv' := [(2, .int v_4), (0, .ref o), (1, .ref x1)]) C dJ2_indexOf_3_4 rfl (by decide) rfl ?_
  refine rb_iload_n C dJ2_indexOf_3_5 rfl 0 rfl ?_
  refine rb_aload_n C dJ2_indexOf_3_6 rfl 2 rfl ?_
  obtain ⟨u_6, e_7, hf⟩ := rb_bd hf
  obtain ⟨v_9, e_10, hf⟩ := rb_bd hf
  refine rb_callV (As := []) (rest := [.int v_4]) C mi_J2_coder sv_J2_335 (hp_k_isC C.pf e_7 ck_J2) (ct_J2_coder Ev h n x1 _ e_10) rfl rfl (Nat.le_of_ble_eq_true rfl) ⟨Nat.le_of_ble_eq_true rfl, Nat.le_of_ble_eq_true rfl, (Nat.zero_le _), (Nat.zero_le _)⟩ dJ2_indexOf_3_7 rb_xXi (rb_kXi fun hn_8 => (rb_w (kc := 0) (ks := 0) rfl rfl ?_))
  refine rb_icmp_ne (tgt := 46) C dJ2_indexOf_3_10 (by decide) (fun c_11 => ?_) (fun c_11 => ?_)
  · have hf := (if_neg c_11).symm.trans hf
    refine rb_iload_n C dJ2_indexOf_3_46 rfl 0 rfl ?_
    refine rb_if_ne (tgt := 52) C dJ2_indexOf_3_47 (by decide) (fun c_12 => ?_) (fun c_12 => ?_)
    · have hf := (if_neg c_12).symm.trans hf
      refine rb_aload_n C dJ2_indexOf_3_52 rfl 1 rfl ?_
      obtain ⟨v_13, e_14, hf⟩ := rb_bd hf
      refine rb_hP C fl_J2_9_J2 e_14 dJ2_indexOf_3_53 ?_
      refine rb_aload_n C dJ2_indexOf_3_56 rfl 2 rfl ?_
      obtain ⟨v_15, e_16, hf⟩ := rb_bd hf
      refine rb_hP C fl_J2_9_J2 e_16 dJ2_indexOf_3_57 ?_
      obtain ⟨v_18, e_19, hf⟩ := rb_bd hf
      refine rb_callS (As := [.ref v_13, .ref v_15]) (rest := []) C mi_J3_indexOfLatin1 ss_J2_650 (ct_J3_indexOfLatin1 Ev h n v_13 v_15 _ e_19) rfl rfl (Nat.le_of_ble_eq_true rfl) ⟨Nat.le_of_ble_eq_true rfl, Nat.le_of_ble_eq_true rfl, (Nat.zero_le _), (Nat.zero_le _)⟩ dJ2_indexOf_3_60 rb_xXi (rb_kXi fun hn_17 => (rb_w (kc := 0) (ks := 0) rfl rfl ?_))
      cases hf
      exact rb_iret C rfl rfl (Nat.zero_le _) (Nat.zero_le _) dJ2_indexOf_3_63 ⟨rfl, rfl, rfl, rfl⟩
    · have hf := (if_pos c_12).symm.trans hf
      refine rb_iconst (v := (-1)) C dJ2_indexOf_3_50 rfl ?_
      cases hf
      exact rb_iret C rfl rfl (Nat.zero_le _) (Nat.zero_le _) dJ2_indexOf_3_51 ⟨rfl, rfl, rfl, rfl⟩
  · have hf := (if_pos c_11).symm.trans hf
    refine rb_aload_n C dJ2_indexOf_3_13 rfl 1 rfl ?_
    obtain ⟨u_20, e_21, hf⟩ := rb_bd hf
    obtain ⟨v_23, e_24, hf⟩ := rb_bd hf
    refine rb_callV (As := []) (rest := []) C mi_J2_isLatin1 sv_J2_492 (hp_k_isC C.pf e_21 ck_J2) (ct_J2_isLatin1 Ev h n o _ e_24) rfl rfl (Nat.le_of_ble_eq_true rfl) ⟨Nat.le_of_ble_eq_true rfl, Nat.le_of_ble_eq_true rfl, (Nat.zero_le _), (Nat.zero_le _)⟩ dJ2_indexOf_3_14 rb_xXi (rb_kXi fun hn_22 => (rb_w (kc := 0) (ks := 0) rfl rfl ?_))
    refine rb_if_eq (tgt := 34) C dJ2_indexOf_3_17 (by decide) (fun c_25 => ?_) (fun c_25 => ?_)
    · have hf := (if_pos c_25).symm.trans hf
      refine rb_aload_n C dJ2_indexOf_3_34 rfl 1 rfl ?_
      obtain ⟨v_26, e_27, hf⟩ := rb_bd hf
      refine rb_hP C fl_J2_9_J2 e_27 dJ2_indexOf_3_35 ?_
      refine rb_aload_n C dJ2_indexOf_3_38 rfl 2 rfl ?_
      obtain ⟨v_28, e_29, hf⟩ := rb_bd hf
      refine rb_hP C fl_J2_9_J2 e_29 dJ2_indexOf_3_39 ?_
      obtain ⟨v_31, e_32, hf⟩ := rb_bd hf
      refine rb_callS (As := [.ref v_26, .ref v_28]) (rest := []) C mi_J3_indexOf_2 ss_J2_649 (ct_J3_indexOf_2 Ev h n v_26 v_28 _ e_32) rfl rfl (Nat.le_of_ble_eq_true rfl) ⟨Nat.le_of_ble_eq_true rfl, Nat.le_of_ble_eq_true rfl, (Nat.zero_le _), (Nat.zero_le _)⟩ dJ2_indexOf_3_42 rb_xXi (rb_kXi fun hn_30 => (rb_w (kc := 0) (ks := 0) rfl rfl ?_))
      cases hf
      exact rb_iret C rfl rfl (Nat.zero_le _) (Nat.zero_le _) dJ2_indexOf_3_45 ⟨rfl, rfl, rfl, rfl⟩
    · have hf := (if_neg c_25).symm.trans hf
      refine rb_aload_n C dJ2_indexOf_3_20 rfl 1 rfl ?_
      obtain ⟨v_33, e_34, hf⟩ := rb_bd hf
      refine rb_hP C fl_J2_9_J2 e_34 dJ2_indexOf_3_21 ?_
      refine rb_aload_n C dJ2_indexOf_3_24 rfl 2 rfl ?_
      obtain ⟨v_35, e_36, hf⟩ := rb_bd hf
      refine rb_hP C fl_J2_9_J2 e_36 dJ2_indexOf_3_25 ?_
      obtain ⟨v_38, e_39, hf⟩ := rb_bd hf
      refine rb_callS (As := [.ref v_33, .ref v_35]) (rest := []) C mi_J11_indexOf_2 ss_J2_647 (ct_J11_indexOf_2 Ev h n v_33 v_35 _ e_39) rfl rfl (Nat.le_of_ble_eq_true rfl) ⟨Nat.le_of_ble_eq_true rfl, Nat.le_of_ble_eq_true rfl, (Nat.zero_le _), (Nat.zero_le _)⟩ dJ2_indexOf_3_28 rb_xXi (rb_kXi fun hn_37 => (rb_w (kc := 0) (ks := 0) rfl rfl ?_))
      refine rb_goto (tgt := 45) C dJ2_indexOf_3_31 (by decide) ?_
      cases hf
      exact rb_iret C rfl rfl (Nat.zero_le _) (Nat.zero_le _) dJ2_indexOf_3_45 ⟨rfl, rfl, rfl, rfl⟩
def f_J12_init_3_X14 (Ev : rb_E) (h : AH) (n : Nat) (o : Nat) (x1 : Option Nat) (x2 : Option Nat) (x3 : Int32) (x4 : Int32) : Option (Unit × AH × Nat × Nat) := (match x1 with | none => (match x2 with | none => ((hp_put h o 12 0 (.ref o)).bind fun h_1 => ((hp_so Ev "java/lang/Throwable" "UNASSIGNED_STACK").bind fun v_3 => (match v_3 with | none => ((hp_put h_1 o 12 1 (.null)).bind fun h_5 => ((hp_so Ev "java/lang/Throwable" "SUPPRESSED_SENTINEL").bind fun v_7 => (match v_7 with | none => ((hp_put h_5 o 12 2 (.null)).bind fun h_9 => (if x4 = 0 then ((hp_put h_9 o 12 1 (.null)).bind fun h_13 => ((hp_put h_13 o 12 3 (.null)).bind fun h_15 => ((hp_put h_15 o 12 0 (.null)).bind fun h_17 => (if x3 = 0 then ((hp_put h_17 o 12 2 (.null)).bind fun h_20 => (some ((), h_20, 0, 0))) else (some ((), h_17, 0, 0)))))) else none)) | some v_7_q => ((hp_put h_5 o 12 2 (.ref v_7_q)).bind fun h_22 => (if x4 = 0 then ((hp_put h_22 o 12 1 (.null)).bind fun h_26 => ((hp_put h_26 o 12 3 (.null)).bind fun h_28 => ((hp_put h_28 o 12 0 (.null)).bind fun h_30 => (if x3 = 0 then ((hp_put h_30 o 12 2 (.null)).bind fun h_33 => (some ((), h_33, 0, 0))) else (some ((), h_30, 0, 0)))))) else none))))) | some v_3_q => ((hp_put h_1 o 12 1 (.ref v_3_q)).bind fun h_35 => ((hp_so Ev "java/lang/Throwable" "SUPPRESSED_SENTINEL").bind fun v_37 => (match v_37 with | none => ((hp_put h_35 o 12 2 (.null)).bind fun h_39 => (if x4 = 0 then ((hp_put h_39 o 12 1 (.null)).bind fun h_43 => ((hp_put h_43 o 12 3 (.null)).bind fun h_45 => ((hp_put h_45 o 12 0 (.null)).bind fun h_47 => (if x3 = 0 then ((hp_put h_47 o 12 2 (.null)).bind fun h_50 => (some ((), h_50, 0, 0))) else (some ((), h_47, 0, 0)))))) else none)) | some v_37_q => ((hp_put h_35 o 12 2 (.ref v_37_q)).bind fun h_52 => (if x4 = 0 then ((hp_put h_52 o 12 1 (.null)).bind fun h_56 => ((hp_put h_56 o 12 3 (.null)).bind fun h_58 => ((hp_put h_58 o 12 0 (.null)).bind fun h_60 => (if x3 = 0 then ((hp_put h_60 o 12 2 (.null)).bind fun h_63 => (some ((), h_63, 0, 0))) else (some ((), h_60, 0, 0)))))) else none)))))))) | some x2_q => ((hp_put h o 12 0 (.ref o)).bind fun h_65 => ((hp_so Ev "java/lang/Throwable" "UNASSIGNED_STACK").bind fun v_67 => (match v_67 with | none => ((hp_put h_65 o 12 1 (.null)).bind fun h_69 => ((hp_so Ev "java/lang/Throwable" "SUPPRESSED_SENTINEL").bind fun v_71 => (match v_71 with | none => ((hp_put h_69 o 12 2 (.null)).bind fun h_73 => (if x4 = 0 then ((hp_put h_73 o 12 1 (.null)).bind fun h_77 => ((hp_put h_77 o 12 3 (.null)).bind fun h_79 => ((hp_put h_79 o 12 0 (.ref x2_q)).bind fun h_81 => (if x3 = 0 then ((hp_put h_81 o 12 2 (.null)).bind fun h_84 => (some ((), h_84, 0, 0))) else (some ((), h_81, 0, 0)))))) else none)) | some v_71_q => ((hp_put h_69 o 12 2 (.ref v_71_q)).bind fun h_86 => (if x4 = 0 then ((hp_put h_86 o 12 1 (.null)).bind fun h_90 => ((hp_put h_90 o 12 3 (.null)).bind fun h_92 => ((hp_put h_92 o 12 0 (.ref x2_q)).bind fun h_94 => (if x3 = 0 then ((hp_put h_94 o 12 2 (.null)).bind fun h_97 => (some ((), h_97, 0, 0))) else (some ((), h_94, 0, 0)))))) else none))))) | some v_67_q => ((hp_put h_65 o 12 1 (.ref v_67_q)).bind fun h_99 => ((hp_so Ev "java/lang/Throwable" "SUPPRESSED_SENTINEL").bind fun v_101 => (match v_101 with | none => ((hp_put h_99 o 12 2 (.null)).bind fun h_103 => (if x4 = 0 then ((hp_put h_103 o 12 1 (.null)).bind fun h_107 => ((hp_put h_107 o 12 3 (.null)).bind fun h_109 => ((hp_put h_109 o 12 0 (.ref x2_q)).bind fun h_111 => (if x3 = 0 then ((hp_put h_111 o 12 2 (.null)).bind fun h_114 => (some ((), h_114, 0, 0))) else (some ((), h_111, 0, 0)))))) else none)) | some v_101_q => ((hp_put h_99 o 12 2 (.ref v_101_q)).bind fun h_116 => (if x4 = 0 then ((hp_put h_116 o 12 1 (.null)).bind fun h_120 => ((hp_put h_120 o 12 3 (.null)).bind fun h_122 => ((hp_put h_122 o 12 0 (.ref x2_q)).bind fun h_124 => (if x3 = 0 then ((hp_put h_124 o 12 2 (.null)).bind fun h_127 => (some ((), h_127, 0, 0))) else (some ((), h_124, 0, 0)))))) else none))))))))) | some x1_q => (match x2 with | none => ((hp_put h o 12 0 (.ref o)).bind fun h_129 => ((hp_so Ev "java/lang/Throwable" "UNASSIGNED_STACK").bind fun v_131 => (match v_131 with | none => ((hp_put h_129 o 12 1 (.null)).bind fun h_133 => ((hp_so Ev "java/lang/Throwable" "SUPPRESSED_SENTINEL").bind fun v_135 => (match v_135 with | none => ((hp_put h_133 o 12 2 (.null)).bind fun h_137 => (if x4 = 0 then ((hp_put h_137 o 12 1 (.null)).bind fun h_141 => ((hp_put h_141 o 12 3 (.ref x1_q)).bind fun h_143 => ((hp_put h_143 o 12 0 (.null)).bind fun h_145 => (if x3 = 0 then ((hp_put h_145 o 12 2 (.null)).bind fun h_148 => (some ((), h_148, 0, 0))) else (some ((), h_145, 0, 0)))))) else none)) | some v_135_q => ((hp_put h_133 o 12 2 (.ref v_135_q)).bind fun h_150 => (if x4 = 0 then ((hp_put h_150 o 12 1 (.null)).bind fun h_154 => ((hp_put h_154 o 12 3 (.ref x1_q)).bind fun h_156 => ((hp_put h_156 o 12 0 (.null)).bind fun h_158 => (if x3 = 0 then ((hp_put h_158 o 12 2 (.null)).bind fun h_161 => (some ((), h_161, 0, 0))) else (some ((), h_158, 0, 0)))))) else none))))) | some v_131_q => ((hp_put h_129 o 12 1 (.ref v_131_q)).bind fun h_163 => ((hp_so Ev "java/lang/Throwable" "SUPPRESSED_SENTINEL").bind fun v_165 => (match v_165 with | none => ((hp_put h_163 o 12 2 (.null)).bind fun h_167 => (if x4 = 0 then ((hp_put h_167 o 12 1 (.null)).bind fun h_171 => ((hp_put h_171 o 12 3 (.ref x1_q)).bind fun h_173 => ((hp_put h_173 o 12 0 (.null)).bind fun h_175 => (if x3 = 0 then ((hp_put h_175 o 12 2 (.null)).bind fun h_178 => (some ((), h_178, 0, 0))) else (some ((), h_175, 0, 0)))))) else none)) | some v_165_q => ((hp_put h_163 o 12 2 (.ref v_165_q)).bind fun h_180 => (if x4 = 0 then ((hp_put h_180 o 12 1 (.null)).bind fun h_184 => ((hp_put h_184 o 12 3 (.ref x1_q)).bind fun h_186 => ((hp_put h_186 o 12 0 (.null)).bind fun h_188 => (if x3 = 0 then ((hp_put h_188 o 12 2 (.null)).bind fun h_191 => (some ((), h_191, 0, 0))) else (some ((), h_188, 0, 0)))))) else none)))))))) | some x2_q => ((hp_put h o 12 0 (.ref o)).bind fun h_193 => ((hp_so Ev "java/lang/Throwable" "UNASSIGNED_STACK").bind fun v_195 => (match v_195 with | none => ((hp_put h_193 o 12 1 (.null)).bind fun h_197 => ((hp_so Ev "java/lang/Throwable" "SUPPRESSED_SENTINEL").bind fun v_199 => (match v_199 with | none => ((hp_put h_197 o 12 2 (.null)).bind fun h_201 => (if x4 = 0 then ((hp_put h_201 o 12 1 (.null)).bind fun h_205 => ((hp_put h_205 o 12 3 (.ref x1_q)).bind fun h_207 => ((hp_put h_207 o 12 0 (.ref x2_q)).bind fun h_209 => (if x3 = 0 then ((hp_put h_209 o 12 2 (.null)).bind fun h_212 => (some ((), h_212, 0, 0))) else (some ((), h_209, 0, 0)))))) else none)) | some v_199_q => ((hp_put h_197 o 12 2 (.ref v_199_q)).bind fun h_214 => (if x4 = 0 then ((hp_put h_214 o 12 1 (.null)).bind fun h_218 => ((hp_put h_218 o 12 3 (.ref x1_q)).bind fun h_220 => ((hp_put h_220 o 12 0 (.ref x2_q)).bind fun h_222 => (if x3 = 0 then ((hp_put h_222 o 12 2 (.null)).bind fun h_225 => (some ((), h_225, 0, 0))) else (some ((), h_222, 0, 0)))))) else none))))) | some v_195_q => ((hp_put h_193 o 12 1 (.ref v_195_q)).bind fun h_227 => ((hp_so Ev "java/lang/Throwable" "SUPPRESSED_SENTINEL").bind fun v_229 => (match v_229 with | none => ((hp_put h_227 o 12 2 (.null)).bind fun h_231 => (if x4 = 0 then ((hp_put h_231 o 12 1 (.null)).bind fun h_235 => ((hp_put h_235 o 12 3 (.ref x1_q)).bind fun h_237 => ((hp_put h_237 o 12 0 (.ref x2_q)).bind fun h_239 => (if x3 = 0 then ((hp_put h_239 o 12 2 (.null)).bind fun h_242 => (some ((), h_242, 0, 0))) else (some ((), h_239, 0, 0)))))) else none)) | some v_229_q => ((hp_put h_227 o 12 2 (.ref v_229_q)).bind fun h_244 => (if x4 = 0 then ((hp_put h_244 o 12 1 (.null)).bind fun h_248 => ((hp_put h_248 o 12 3 (.ref x1_q)).bind fun h_250 => ((hp_put h_250 o 12 0 (.ref x2_q)).bind fun h_252 => (if x3 = 0 then ((hp_put h_252 o 12 2 (.null)).bind fun h_255 => (some ((), h_255, 0, 0))) else (some ((), h_252, 0, 0)))))) else none))))))))))
abbrev rm_J12_init_3_X14 (k s : Nat) : Room := { frames := 1, cells := k, slots := s, locals := 40 }
set_option maxHeartbeats 4000000 in
theorem ct_J12_init_3_X14 (Ev : rb_E) (h : AH) (n : Nat) (o : Nat) (x1 : Option Nat) (x2 : Option Nat) (x3 : Int32) (x4 : Int32) (r : Unit) (h' : AH) (k s : Nat) (hf : f_J12_init_3_X14 Ev h n o x1 x2 x3 x4 = some (r, h', k, s)) : Ct Ev yJ12_init_3 (ws_ yJ12_init_3 cJ12_init_3 5 none) (rm_J12_init_3_X14 k s) [.ref o, va_rf x1, va_rf x2, .int x3, .int x4] h n (pX (.inl (none)) h' (n + k)) := by
  unfold f_J12_init_3_X14 at hf
  cases x1 with
  | none =>
    dsimp only at hf
    cases x2 with
    | none =>
      dsimp only at hf
      refine Ct.of rfl (Nat.le_of_ble_eq_true rfl) fun X C hnm => ?_
      have C : Cx Ev X RJ12 cJ12_init_3 5 none [] := C
      show Wa Ev X (rm_J12_init_3_X14 k s) 5 h n 0 0 (rb_MQ Ev X (rm_J12_init_3_X14 k s) (pX (.inl (none)) h' (n + k))) 0 [(0, .ref o), (1, .null), (2, .null), (3, .int x3), (4, .int x4)] []
      have hb : Bd (n + k) k s n 0 0 k s := ⟨rfl, Nat.le_of_eq (Nat.zero_add _), Nat.le_of_eq (Nat.zero_add _)⟩
      refine rb_aload_n C dJ12_init_3_0 rfl 0 rfl ?_
      refine rb_objInit C q615 q123 q124 dJ12_init_3_1 (Nat.le_of_ble_eq_true rfl) (Nat.le_of_ble_eq_true rfl) ?_
      refine rb_aload_n C dJ12_init_3_4 rfl 0 rfl ?_
      refine rb_aload_n C dJ12_init_3_5 rfl 0 rfl ?_
      obtain ⟨h_1, e_2, hf⟩ := rb_bd hf
      refine rb_hput C fw_J12_7_X14 e_2 rfl rfl dJ12_init_3_6 ?_
      refine rb_aload_n C dJ12_init_3_9 rfl 0 rfl ?_
      obtain ⟨v_3, e_4, hf⟩ := rb_bd hf
      refine rb_hso C q616 q617 e_4 dJ12_init_3_10 ?_
      cases v_3 with
      | none =>
        dsimp only at hf
        obtain ⟨h_5, e_6, hf⟩ := rb_bd hf
        refine rb_hput C fw_J12_17_X14 e_6 rfl rfl dJ12_init_3_13 ?_
        refine rb_aload_n C dJ12_init_3_16 rfl 0 rfl ?_
        obtain ⟨v_7, e_8, hf⟩ := rb_bd hf
        refine rb_hso C q618 q619 e_8 dJ12_init_3_17 ?_
        cases v_7 with
        | none =>
          dsimp only at hf
          obtain ⟨h_9, e_10, hf⟩ := rb_bd hf
          refine rb_hput C fw_J12_24_X14 e_10 rfl rfl dJ12_init_3_20 ?_
          refine rb_iload C dJ12_init_3_23 4 rfl ?_
          refine rb_if_eq (tgt := 36) C dJ12_init_3_25 (by decide) (fun c_11 => ?_) (fun c_11 => ?_)
          · have hf := (if_pos c_11).symm.trans hf
            refine rb_aload_n C dJ12_init_3_36 rfl 0 rfl ?_
            refine rb_null C dJ12_init_3_37 ?_
            obtain ⟨h_13, e_14, hf⟩ := rb_bd hf
            refine rb_hput C fw_J12_17_X14 e_14 rfl rfl dJ12_init_3_38 ?_
            refine rb_aload_n C dJ12_init_3_41 rfl 0 rfl ?_
            refine rb_aload_nN C dJ12_init_3_42 rfl 1 rfl ?_
            obtain ⟨h_15, e_16, hf⟩ := rb_bd hf
            refine rb_hput C fw_J12_31_X14 e_16 rfl rfl dJ12_init_3_43 ?_
            refine rb_aload_n C dJ12_init_3_46 rfl 0 rfl ?_
            refine rb_aload_nN C dJ12_init_3_47 rfl 2 rfl ?_
            obtain ⟨h_17, e_18, hf⟩ := rb_bd hf
            refine rb_hput C fw_J12_7_X14 e_18 rfl rfl dJ12_init_3_48 ?_
            refine rb_iload_n C dJ12_init_3_51 rfl 3 rfl ?_
            refine rb_if_ne (tgt := 60) C dJ12_init_3_52 (by decide) (fun c_19 => ?_) (fun c_19 => ?_)
            · have hf := (if_neg c_19).symm.trans hf
              cases hf
              exact rb_vret C rfl hb.e.2.1 hb.e.2.2 dJ12_init_3_60 ⟨rfl, rfl, hb.e.1⟩
            · have hf := (if_pos c_19).symm.trans hf
              refine rb_aload_n C dJ12_init_3_55 rfl 0 rfl ?_
              refine rb_null C dJ12_init_3_56 ?_
              obtain ⟨h_20, e_21, hf⟩ := rb_bd hf
              refine rb_hput C fw_J12_24_X14 e_21 rfl rfl dJ12_init_3_57 ?_
              cases hf
              exact rb_vret C rfl hb.e.2.1 hb.e.2.2 dJ12_init_3_60 ⟨rfl, rfl, hb.e.1⟩
          · have hf := (if_neg c_11).symm.trans hf
            refine rb_aload_n C dJ12_init_3_28 rfl 0 rfl ?_
            cases hf
        | some v_7_q =>
          dsimp only at hf
          obtain ⟨h_22, e_23, hf⟩ := rb_bd hf
          refine rb_hput C fw_J12_24_X14 e_23 rfl rfl dJ12_init_3_20 ?_
          refine rb_iload C dJ12_init_3_23 4 rfl ?_
          refine rb_if_eq (tgt := 36) C dJ12_init_3_25 (by decide) (fun c_24 => ?_) (fun c_24 => ?_)
          · have hf := (if_pos c_24).symm.trans hf
            refine rb_aload_n C dJ12_init_3_36 rfl 0 rfl ?_
            refine rb_null C dJ12_init_3_37 ?_
            obtain ⟨h_26, e_27, hf⟩ := rb_bd hf
            refine rb_hput C fw_J12_17_X14 e_27 rfl rfl dJ12_init_3_38 ?_
            refine rb_aload_n C dJ12_init_3_41 rfl 0 rfl ?_
            refine rb_aload_nN C dJ12_init_3_42 rfl 1 rfl ?_
            obtain ⟨h_28, e_29, hf⟩ := rb_bd hf
            refine rb_hput C fw_J12_31_X14 e_29 rfl rfl dJ12_init_3_43 ?_
            refine rb_aload_n C dJ12_init_3_46 rfl 0 rfl ?_
            refine rb_aload_nN C dJ12_init_3_47 rfl 2 rfl ?_
            obtain ⟨h_30, e_31, hf⟩ := rb_bd hf
            refine rb_hput C fw_J12_7_X14 e_31 rfl rfl dJ12_init_3_48 ?_
            refine rb_iload_n C dJ12_init_3_51 rfl 3 rfl ?_
            refine rb_if_ne (tgt := 60) C dJ12_init_3_52 (by decide) (fun c_32 => ?_) (fun c_32 => ?_)
            · have hf := (if_neg c_32).symm.trans hf
              cases hf
              exact rb_vret C rfl hb.e.2.1 hb.e.2.2 dJ12_init_3_60 ⟨rfl, rfl, hb.e.1⟩
            · have hf := (if_pos c_32).symm.trans hf
              refine rb_aload_n C dJ12_init_3_55 rfl 0 rfl ?_
              refine rb_null C dJ12_init_3_56 ?_
              obtain ⟨h_33, e_34, hf⟩ := rb_bd hf
              refine rb_hput C fw_J12_24_X14 e_34 rfl rfl dJ12_init_3_57 ?_
              cases hf
              exact rb_vret C rfl hb.e.2.1 hb.e.2.2 dJ12_init_3_60 ⟨rfl, rfl, hb.e.1⟩
          · have hf := (if_neg c_24).symm.trans hf
            refine rb_aload_n C dJ12_init_3_28 rfl 0 rfl ?_
            cases hf
      | some v_3_q =>
        dsimp only at hf
        obtain ⟨h_35, e_36, hf⟩ := rb_bd hf
        refine rb_hput C fw_J12_17_X14 e_36 rfl rfl dJ12_init_3_13 ?_
        refine rb_aload_n C dJ12_init_3_16 rfl 0 rfl ?_
        obtain ⟨v_37, e_38, hf⟩ := rb_bd hf
        refine rb_hso C q618 q619 e_38 dJ12_init_3_17 ?_
        cases v_37 with
        | none =>
          dsimp only at hf
          obtain ⟨h_39, e_40, hf⟩ := rb_bd hf
          refine rb_hput C fw_J12_24_X14 e_40 rfl rfl dJ12_init_3_20 ?_
          refine rb_iload C dJ12_init_3_23 4 rfl ?_
          refine rb_if_eq (tgt := 36) C dJ12_init_3_25 (by decide) (fun c_41 => ?_) (fun c_41 => ?_)
          · have hf := (if_pos c_41).symm.trans hf
            refine rb_aload_n C dJ12_init_3_36 rfl 0 rfl ?_
            refine rb_null C dJ12_init_3_37 ?_
            obtain ⟨h_43, e_44, hf⟩ := rb_bd hf
            refine rb_hput C fw_J12_17_X14 e_44 rfl rfl dJ12_init_3_38 ?_
            refine rb_aload_n C dJ12_init_3_41 rfl 0 rfl ?_
            refine rb_aload_nN C dJ12_init_3_42 rfl 1 rfl ?_
            obtain ⟨h_45, e_46, hf⟩ := rb_bd hf
            refine rb_hput C fw_J12_31_X14 e_46 rfl rfl dJ12_init_3_43 ?_
            refine rb_aload_n C dJ12_init_3_46 rfl 0 rfl ?_
            refine rb_aload_nN C dJ12_init_3_47 rfl 2 rfl ?_
            obtain ⟨h_47, e_48, hf⟩ := rb_bd hf
            refine rb_hput C fw_J12_7_X14 e_48 rfl rfl dJ12_init_3_48 ?_
            refine rb_iload_n C dJ12_init_3_51 rfl 3 rfl ?_
            refine rb_if_ne (tgt := 60) C dJ12_init_3_52 (by decide) (fun c_49 => ?_) (fun c_49 => ?_)
            · have hf := (if_neg c_49).symm.trans hf
              cases hf
              exact rb_vret C rfl hb.e.2.1 hb.e.2.2 dJ12_init_3_60 ⟨rfl, rfl, hb.e.1⟩
            · have hf := (if_pos c_49).symm.trans hf
              refine rb_aload_n C dJ12_init_3_55 rfl 0 rfl ?_
              refine rb_null C dJ12_init_3_56 ?_
              obtain ⟨h_50, e_51, hf⟩ := rb_bd hf
              refine rb_hput C fw_J12_24_X14 e_51 rfl rfl dJ12_init_3_57 ?_
              cases hf
              exact rb_vret C rfl hb.e.2.1 hb.e.2.2 dJ12_init_3_60 ⟨rfl, rfl, hb.e.1⟩
          · have hf := (if_neg c_41).symm.trans hf
            refine rb_aload_n C dJ12_init_3_28 rfl 0 rfl ?_
            cases hf
        | some v_37_q =>
          dsimp only at hf
          obtain ⟨h_52, e_53, hf⟩ := rb_bd hf
          refine rb_hput C fw_J12_24_X14 e_53 rfl rfl dJ12_init_3_20 ?_
          refine rb_iload C dJ12_init_3_23 4 rfl ?_
          refine rb_if_eq (tgt := 36) C dJ12_init_3_25 (by decide) (fun c_54 => ?_) (fun c_54 => ?_)
          · have hf := (if_pos c_54).symm.trans hf
            refine rb_aload_n C dJ12_init_3_36 rfl 0 rfl ?_
            refine rb_null C dJ12_init_3_37 ?_
            obtain ⟨h_56, e_57, hf⟩ := rb_bd hf
            refine rb_hput C fw_J12_17_X14 e_57 rfl rfl dJ12_init_3_38 ?_
            refine rb_aload_n C dJ12_init_3_41 rfl 0 rfl ?_
            refine rb_aload_nN C dJ12_init_3_42 rfl 1 rfl ?_
            obtain ⟨h_58, e_59, hf⟩ := rb_bd hf
            refine rb_hput C fw_J12_31_X14 e_59 rfl rfl dJ12_init_3_43 ?_
            refine rb_aload_n C dJ12_init_3_46 rfl 0 rfl ?_
            refine rb_aload_nN C dJ12_init_3_47 rfl 2 rfl ?_
            obtain ⟨h_60, e_61, hf⟩ := rb_bd hf
            refine rb_hput C fw_J12_7_X14 e_61 rfl rfl dJ12_init_3_48 ?_
            refine rb_iload_n C dJ12_init_3_51 rfl 3 rfl ?_
            refine rb_if_ne (tgt := 60) C dJ12_init_3_52 (by decide) (fun c_62 => ?_) (fun c_62 => ?_)
            · have hf := (if_neg c_62).symm.trans hf
              cases hf
              exact rb_vret C rfl hb.e.2.1 hb.e.2.2 dJ12_init_3_60 ⟨rfl, rfl, hb.e.1⟩
            · have hf := (if_pos c_62).symm.trans hf
              refine rb_aload_n C dJ12_init_3_55 rfl 0 rfl ?_
              refine rb_null C dJ12_init_3_56 ?_
              obtain ⟨h_63, e_64, hf⟩ := rb_bd hf
              refine rb_hput C fw_J12_24_X14 e_64 rfl rfl dJ12_init_3_57 ?_
              cases hf
              exact rb_vret C rfl hb.e.2.1 hb.e.2.2 dJ12_init_3_60 ⟨rfl, rfl, hb.e.1⟩
          · have hf := (if_neg c_54).symm.trans hf
            refine rb_aload_n C dJ12_init_3_28 rfl 0 rfl ?_
            cases hf
    | some x2_q =>
      dsimp only at hf
      refine Ct.of rfl (Nat.le_of_ble_eq_true rfl) fun X C hnm => ?_
      have C : Cx Ev X RJ12 cJ12_init_3 5 none [] := C
      show Wa Ev X (rm_J12_init_3_X14 k s) 5 h n 0 0 (rb_MQ Ev X (rm_J12_init_3_X14 k s) (pX (.inl (none)) h' (n + k))) 0 [(0, .ref o), (1, .null), (2, .ref x2_q), (3, .int x3), (4, .int x4)] []
      have hb : Bd (n + k) k s n 0 0 k s := ⟨rfl, Nat.le_of_eq (Nat.zero_add _), Nat.le_of_eq (Nat.zero_add _)⟩
      refine rb_aload_n C dJ12_init_3_0 rfl 0 rfl ?_
      refine rb_objInit C q615 q123 q124 dJ12_init_3_1 (Nat.le_of_ble_eq_true rfl) (Nat.le_of_ble_eq_true rfl) ?_
      refine rb_aload_n C dJ12_init_3_4 rfl 0 rfl ?_
      refine rb_aload_n C dJ12_init_3_5 rfl 0 rfl ?_
      obtain ⟨h_65, e_66, hf⟩ := rb_bd hf
      refine rb_hput C fw_J12_7_X14 e_66 rfl rfl dJ12_init_3_6 ?_
      refine rb_aload_n C dJ12_init_3_9 rfl 0 rfl ?_
      obtain ⟨v_67, e_68, hf⟩ := rb_bd hf
      refine rb_hso C q616 q617 e_68 dJ12_init_3_10 ?_
      cases v_67 with
      | none =>
        dsimp only at hf
        obtain ⟨h_69, e_70, hf⟩ := rb_bd hf
        refine rb_hput C fw_J12_17_X14 e_70 rfl rfl dJ12_init_3_13 ?_
        refine rb_aload_n C dJ12_init_3_16 rfl 0 rfl ?_
        obtain ⟨v_71, e_72, hf⟩ := rb_bd hf
        refine rb_hso C q618 q619 e_72 dJ12_init_3_17 ?_
        cases v_71 with
        | none =>
          dsimp only at hf
          obtain ⟨h_73, e_74, hf⟩ := rb_bd hf
          refine rb_hput C fw_J12_24_X14 e_74 rfl rfl dJ12_init_3_20 ?_
          refine rb_iload C dJ12_init_3_23 4 rfl ?_
          refine rb_if_eq (tgt := 36) C dJ12_init_3_25 (by decide) (fun c_75 => ?_) (fun c_75 => ?_)
          · have hf := (if_pos c_75).symm.trans hf
            refine rb_aload_n C dJ12_init_3_36 rfl 0 rfl ?_
            refine rb_null C dJ12_init_3_37 ?_
            obtain ⟨h_77, e_78, hf⟩ := rb_bd hf
            refine rb_hput C fw_J12_17_X14 e_78 rfl rfl dJ12_init_3_38 ?_
            refine rb_aload_n C dJ12_init_3_41 rfl 0 rfl ?_
            refine rb_aload_nN C dJ12_init_3_42 rfl 1 rfl ?_
            obtain ⟨h_79, e_80, hf⟩ := rb_bd hf
            refine rb_hput C fw_J12_31_X14 e_80 rfl rfl dJ12_init_3_43 ?_
            refine rb_aload_n C dJ12_init_3_46 rfl 0 rfl ?_
            refine rb_aload_n C dJ12_init_3_47 rfl 2 rfl ?_
            obtain ⟨h_81, e_82, hf⟩ := rb_bd hf
            refine rb_hput C fw_J12_7_X14 e_82 rfl rfl dJ12_init_3_48 ?_
            refine rb_iload_n C dJ12_init_3_51 rfl 3 rfl ?_
            refine rb_if_ne (tgt := 60) C dJ12_init_3_52 (by decide) (fun c_83 => ?_) (fun c_83 => ?_)
            · have hf := (if_neg c_83).symm.trans hf
              cases hf
              exact rb_vret C rfl hb.e.2.1 hb.e.2.2 dJ12_init_3_60 ⟨rfl, rfl, hb.e.1⟩
            · have hf := (if_pos c_83).symm.trans hf
              refine rb_aload_n C dJ12_init_3_55 rfl 0 rfl ?_
              refine rb_null C dJ12_init_3_56 ?_
              obtain ⟨h_84, e_85, hf⟩ := rb_bd hf
              refine rb_hput C fw_J12_24_X14 e_85 rfl rfl dJ12_init_3_57 ?_
              cases hf
              exact rb_vret C rfl hb.e.2.1 hb.e.2.2 dJ12_init_3_60 ⟨rfl, rfl, hb.e.1⟩
          · have hf := (if_neg c_75).symm.trans hf
            refine rb_aload_n C dJ12_init_3_28 rfl 0 rfl ?_
            cases hf
        | some v_71_q =>
          dsimp only at hf
          obtain ⟨h_86, e_87, hf⟩ := rb_bd hf
          refine rb_hput C fw_J12_24_X14 e_87 rfl rfl dJ12_init_3_20 ?_
          refine rb_iload C dJ12_init_3_23 4 rfl ?_
          refine rb_if_eq (tgt := 36) C dJ12_init_3_25 (by decide) (fun c_88 => ?_) (fun c_88 => ?_)
          · have hf := (if_pos c_88).symm.trans hf
            refine rb_aload_n C dJ12_init_3_36 rfl 0 rfl ?_
            refine rb_null C dJ12_init_3_37 ?_
            obtain ⟨h_90, e_91, hf⟩ := rb_bd hf
            refine rb_hput C fw_J12_17_X14 e_91 rfl rfl dJ12_init_3_38 ?_
            refine rb_aload_n C dJ12_init_3_41 rfl 0 rfl ?_
            refine rb_aload_nN C dJ12_init_3_42 rfl 1 rfl ?_
            obtain ⟨h_92, e_93, hf⟩ := rb_bd hf
            refine rb_hput C fw_J12_31_X14 e_93 rfl rfl dJ12_init_3_43 ?_
            refine rb_aload_n C dJ12_init_3_46 rfl 0 rfl ?_
            refine rb_aload_n C dJ12_init_3_47 rfl 2 rfl ?_
            obtain ⟨h_94, e_95, hf⟩ := rb_bd hf
            refine rb_hput C fw_J12_7_X14 e_95 rfl rfl dJ12_init_3_48 ?_
            refine rb_iload_n C dJ12_init_3_51 rfl 3 rfl ?_
            refine rb_if_ne (tgt := 60) C dJ12_init_3_52 (by decide) (fun c_96 => ?_) (fun c_96 => ?_)
            · have hf := (if_neg c_96).symm.trans hf
              cases hf
              exact rb_vret C rfl hb.e.2.1 hb.e.2.2 dJ12_init_3_60 ⟨rfl, rfl, hb.e.1⟩
            · have hf := (if_pos c_96).symm.trans hf
              refine rb_aload_n C dJ12_init_3_55 rfl 0 rfl ?_
              refine rb_null C dJ12_init_3_56 ?_
              obtain ⟨h_97, e_98, hf⟩ := rb_bd hf
              refine rb_hput C fw_J12_24_X14 e_98 rfl rfl dJ12_init_3_57 ?_
              cases hf
              exact rb_vret C rfl hb.e.2.1 hb.e.2.2 dJ12_init_3_60 ⟨rfl, rfl, hb.e.1⟩
          · have hf := (if_neg c_88).symm.trans hf
            refine rb_aload_n C dJ12_init_3_28 rfl 0 rfl ?_
            cases hf
      | some v_67_q =>
        dsimp only at hf
        obtain ⟨h_99, e_100, hf⟩ := rb_bd hf
        refine rb_hput C fw_J12_17_X14 e_100 rfl rfl dJ12_init_3_13 ?_
        refine rb_aload_n C dJ12_init_3_16 rfl 0 rfl ?_
        obtain ⟨v_101, e_102, hf⟩ := rb_bd hf
        refine rb_hso C q618 q619 e_102 dJ12_init_3_17 ?_
        cases v_101 with
        | none =>
          dsimp only at hf
          obtain ⟨h_103, e_104, hf⟩ := rb_bd hf
          refine rb_hput C fw_J12_24_X14 e_104 rfl rfl dJ12_init_3_20 ?_
          refine rb_iload C dJ12_init_3_23 4 rfl ?_
          refine rb_if_eq (tgt := 36) C dJ12_init_3_25 (by decide) (fun c_105 => ?_) (fun c_105 => ?_)
          · have hf := (if_pos c_105).symm.trans hf
            refine rb_aload_n C dJ12_init_3_36 rfl 0 rfl ?_
            refine rb_null C dJ12_init_3_37 ?_
            obtain ⟨h_107, e_108, hf⟩ := rb_bd hf
            refine rb_hput C fw_J12_17_X14 e_108 rfl rfl dJ12_init_3_38 ?_
            refine rb_aload_n C dJ12_init_3_41 rfl 0 rfl ?_
            refine rb_aload_nN C dJ12_init_3_42 rfl 1 rfl ?_
            obtain ⟨h_109, e_110, hf⟩ := rb_bd hf
            refine rb_hput C fw_J12_31_X14 e_110 rfl rfl dJ12_init_3_43 ?_
            refine rb_aload_n C dJ12_init_3_46 rfl 0 rfl ?_
            refine rb_aload_n C dJ12_init_3_47 rfl 2 rfl ?_
            obtain ⟨h_111, e_112, hf⟩ := rb_bd hf
            refine rb_hput C fw_J12_7_X14 e_112 rfl rfl dJ12_init_3_48 ?_
            refine rb_iload_n C dJ12_init_3_51 rfl 3 rfl ?_
            refine rb_if_ne (tgt := 60) C dJ12_init_3_52 (by decide) (fun c_113 => ?_) (fun c_113 => ?_)
            · have hf := (if_neg c_113).symm.trans hf
              cases hf
              exact rb_vret C rfl hb.e.2.1 hb.e.2.2 dJ12_init_3_60 ⟨rfl, rfl, hb.e.1⟩
            · have hf := (if_pos c_113).symm.trans hf
              refine rb_aload_n C dJ12_init_3_55 rfl 0 rfl ?_
              refine rb_null C dJ12_init_3_56 ?_
              obtain ⟨h_114, e_115, hf⟩ := rb_bd hf
              refine rb_hput C fw_J12_24_X14 e_115 rfl rfl dJ12_init_3_57 ?_
              cases hf
              exact rb_vret C rfl hb.e.2.1 hb.e.2.2 dJ12_init_3_60 ⟨rfl, rfl, hb.e.1⟩
          · have hf := (if_neg c_105).symm.trans hf
            refine rb_aload_n C dJ12_init_3_28 rfl 0 rfl ?_
            cases hf
        | some v_101_q =>
          dsimp only at hf
          obtain ⟨h_116, e_117, hf⟩ := rb_bd hf
          refine rb_hput C fw_J12_24_X14 e_117 rfl rfl dJ12_init_3_20 ?_
          refine rb_iload C dJ12_init_3_23 4 rfl ?_
          refine rb_if_eq (tgt := 36) C dJ12_init_3_25 (by decide) (fun c_118 => ?_) (fun c_118 => ?_)
          · have hf := (if_pos c_118).symm.trans hf
            refine rb_aload_n C dJ12_init_3_36 rfl 0 rfl ?_
            refine rb_null C dJ12_init_3_37 ?_
            obtain ⟨h_120, e_121, hf⟩ := rb_bd hf
            refine rb_hput C fw_J12_17_X14 e_121 rfl rfl dJ12_init_3_38 ?_
            refine rb_aload_n C dJ12_init_3_41 rfl 0 rfl ?_
            refine rb_aload_nN C dJ12_init_3_42 rfl 1 rfl ?_
            obtain ⟨h_122, e_123, hf⟩ := rb_bd hf
            refine rb_hput C fw_J12_31_X14 e_123 rfl rfl dJ12_init_3_43 ?_
            refine rb_aload_n C dJ12_init_3_46 rfl 0 rfl ?_
            refine rb_aload_n C dJ12_init_3_47 rfl 2 rfl ?_
            obtain ⟨h_124, e_125, hf⟩ := rb_bd hf
            refine rb_hput C fw_J12_7_X14 e_125 rfl rfl dJ12_init_3_48 ?_
            refine rb_iload_n C dJ12_init_3_51 rfl 3 rfl ?_
            refine rb_if_ne (tgt := 60) C dJ12_init_3_52 (by decide) (fun c_126 => ?_) (fun c_126 => ?_)
            · have hf := (if_neg c_126).symm.trans hf
              cases hf
              exact rb_vret C rfl hb.e.2.1 hb.e.2.2 dJ12_init_3_60 ⟨rfl, rfl, hb.e.1⟩
            · have hf := (if_pos c_126).symm.trans hf
              refine rb_aload_n C dJ12_init_3_55 rfl 0 rfl ?_
              refine rb_null C dJ12_init_3_56 ?_
              obtain ⟨h_127, e_128, hf⟩ := rb_bd hf
              refine rb_hput C fw_J12_24_X14 e_128 rfl rfl dJ12_init_3_57 ?_
              cases hf
              exact rb_vret C rfl hb.e.2.1 hb.e.2.2 dJ12_init_3_60 ⟨rfl, rfl, hb.e.1⟩
          · have hf := (if_neg c_118).symm.trans hf
            refine rb_aload_n C dJ12_init_3_28 rfl 0 rfl ?_
            cases hf
  | some x1_q =>
    dsimp only at hf
    cases x2 with
    | none =>
      dsimp only at hf
      refine Ct.of rfl (Nat.le_of_ble_eq_true rfl) fun X C hnm => ?_
      have C : Cx Ev X RJ12 cJ12_init_3 5 none [] := C
      show Wa Ev X (rm_J12_init_3_X14 k s) 5 h n 0 0 (rb_MQ Ev X (rm_J12_init_3_X14 k s) (pX (.inl (none)) h' (n + k))) 0 [(0, .ref o), (1, .ref x1_q), (2, .null), (3, .int x3), (4, .int x4)] []
      have hb : Bd (n + k) k s n 0 0 k s := ⟨rfl, Nat.le_of_eq (Nat.zero_add _), Nat.le_of_eq (Nat.zero_add _)⟩
      refine rb_aload_n C dJ12_init_3_0 rfl 0 rfl ?_
      refine rb_objInit C q615 q123 q124 dJ12_init_3_1 (Nat.le_of_ble_eq_true rfl) (Nat.le_of_ble_eq_true rfl) ?_
      refine rb_aload_n C dJ12_init_3_4 rfl 0 rfl ?_
      refine rb_aload_n C dJ12_init_3_5 rfl 0 rfl ?_
      obtain ⟨h_129, e_130, hf⟩ := rb_bd hf
      refine rb_hput C fw_J12_7_X14 e_130 rfl rfl dJ12_init_3_6 ?_
      refine rb_aload_n C dJ12_init_3_9 rfl 0 rfl ?_
      obtain ⟨v_131, e_132, hf⟩ := rb_bd hf
      refine rb_hso C q616 q617 e_132 dJ12_init_3_10 ?_
      cases v_131 with
      | none =>
        dsimp only at hf
        obtain ⟨h_133, e_134, hf⟩ := rb_bd hf
        refine rb_hput C fw_J12_17_X14 e_134 rfl rfl dJ12_init_3_13 ?_
        refine rb_aload_n C dJ12_init_3_16 rfl 0 rfl ?_
        obtain ⟨v_135, e_136, hf⟩ := rb_bd hf
        refine rb_hso C q618 q619 e_136 dJ12_init_3_17 ?_
        cases v_135 with
        | none =>
          dsimp only at hf
          obtain ⟨h_137, e_138, hf⟩ := rb_bd hf
          refine rb_hput C fw_J12_24_X14 e_138 rfl rfl dJ12_init_3_20 ?_
          refine rb_iload C dJ12_init_3_23 4 rfl ?_
          refine rb_if_eq (tgt := 36) C dJ12_init_3_25 (by decide) (fun c_139 => ?_) (fun c_139 => ?_)
          · have hf := (if_pos c_139).symm.trans hf
            refine rb_aload_n C dJ12_init_3_36 rfl 0 rfl ?_
            refine rb_null C dJ12_init_3_37 ?_
            obtain ⟨h_141, e_142, hf⟩ := rb_bd hf
            refine rb_hput C fw_J12_17_X14 e_142 rfl rfl dJ12_init_3_38 ?_
            refine rb_aload_n C dJ12_init_3_41 rfl 0 rfl ?_
            refine rb_aload_n C dJ12_init_3_42 rfl 1 rfl ?_
            obtain ⟨h_143, e_144, hf⟩ := rb_bd hf
            refine rb_hput C fw_J12_31_X14 e_144 rfl rfl dJ12_init_3_43 ?_
            refine rb_aload_n C dJ12_init_3_46 rfl 0 rfl ?_
            refine rb_aload_nN C dJ12_init_3_47 rfl 2 rfl ?_
            obtain ⟨h_145, e_146, hf⟩ := rb_bd hf
            refine rb_hput C fw_J12_7_X14 e_146 rfl rfl dJ12_init_3_48 ?_
            refine rb_iload_n C dJ12_init_3_51 rfl 3 rfl ?_
            refine rb_if_ne (tgt := 60) C dJ12_init_3_52 (by decide) (fun c_147 => ?_) (fun c_147 => ?_)
            · have hf := (if_neg c_147).symm.trans hf
              cases hf
              exact rb_vret C rfl hb.e.2.1 hb.e.2.2 dJ12_init_3_60 ⟨rfl, rfl, hb.e.1⟩
            · have hf := (if_pos c_147).symm.trans hf
              refine rb_aload_n C dJ12_init_3_55 rfl 0 rfl ?_
              refine rb_null C dJ12_init_3_56 ?_
              obtain ⟨h_148, e_149, hf⟩ := rb_bd hf
              refine rb_hput C fw_J12_24_X14 e_149 rfl rfl dJ12_init_3_57 ?_
              cases hf
              exact rb_vret C rfl hb.e.2.1 hb.e.2.2 dJ12_init_3_60 ⟨rfl, rfl, hb.e.1⟩
          · have hf := (if_neg c_139).symm.trans hf
            refine rb_aload_n C dJ12_init_3_28 rfl 0 rfl ?_
            cases hf
        | some v_135_q =>
          dsimp only at hf
          obtain ⟨h_150, e_151, hf⟩ := rb_bd hf
          refine rb_hput C fw_J12_24_X14 e_151 rfl rfl dJ12_init_3_20 ?_
          refine rb_iload C dJ12_init_3_23 4 rfl ?_
          refine rb_if_eq (tgt := 36) C dJ12_init_3_25 (by decide) (fun c_152 => ?_) (fun c_152 => ?_)
          · have hf := (if_pos c_152).symm.trans hf
            refine rb_aload_n C dJ12_init_3_36 rfl 0 rfl ?_
            refine rb_null C dJ12_init_3_37 ?_
            obtain ⟨h_154, e_155, hf⟩ := rb_bd hf
            refine rb_hput C fw_J12_17_X14 e_155 rfl rfl dJ12_init_3_38 ?_
            refine rb_aload_n C dJ12_init_3_41 rfl 0 rfl ?_
            refine rb_aload_n C dJ12_init_3_42 rfl 1 rfl ?_
            obtain ⟨h_156, e_157, hf⟩ := rb_bd hf
            refine rb_hput C fw_J12_31_X14 e_157 rfl rfl dJ12_init_3_43 ?_
            refine rb_aload_n C dJ12_init_3_46 rfl 0 rfl ?_
            refine rb_aload_nN C dJ12_init_3_47 rfl 2 rfl ?_
            obtain ⟨h_158, e_159, hf⟩ := rb_bd hf
            refine rb_hput C fw_J12_7_X14 e_159 rfl rfl dJ12_init_3_48 ?_
            refine rb_iload_n C dJ12_init_3_51 rfl 3 rfl ?_
            refine rb_if_ne (tgt := 60) C dJ12_init_3_52 (by decide) (fun c_160 => ?_) (fun c_160 => ?_)
            · have hf := (if_neg c_160).symm.trans hf
              cases hf
              exact rb_vret C rfl hb.e.2.1 hb.e.2.2 dJ12_init_3_60 ⟨rfl, rfl, hb.e.1⟩
            · have hf := (if_pos c_160).symm.trans hf
              refine rb_aload_n C dJ12_init_3_55 rfl 0 rfl ?_
              refine rb_null C dJ12_init_3_56 ?_
              obtain ⟨h_161, e_162, hf⟩ := rb_bd hf
              refine rb_hput C fw_J12_24_X14 e_162 rfl rfl dJ12_init_3_57 ?_
              cases hf
              exact rb_vret C rfl hb.e.2.1 hb.e.2.2 dJ12_init_3_60 ⟨rfl, rfl, hb.e.1⟩
          · have hf := (if_neg c_152).symm.trans hf
            refine rb_aload_n C dJ12_init_3_28 rfl 0 rfl ?_
            cases hf
      | some v_131_q =>
        dsimp only at hf
        obtain ⟨h_163, e_164, hf⟩ := rb_bd hf
        refine rb_hput C fw_J12_17_X14 e_164 rfl rfl dJ12_init_3_13 ?_
        refine rb_aload_n C dJ12_init_3_16 rfl 0 rfl ?_
        obtain ⟨v_165, e_166, hf⟩ := rb_bd hf
        refine rb_hso C q618 q619 e_166 dJ12_init_3_17 ?_
        cases v_165 with
        | none =>
          dsimp only at hf
          obtain ⟨h_167, e_168, hf⟩ := rb_bd hf
          refine rb_hput C fw_J12_24_X14 e_168 rfl rfl dJ12_init_3_20 ?_
          refine rb_iload C dJ12_init_3_23 4 rfl ?_
          refine rb_if_eq (tgt := 36) C dJ12_init_3_25 (by decide) (fun c_169 => ?_) (fun c_169 => ?_)
          · have hf := (if_pos c_169).symm.trans hf
            refine rb_aload_n C dJ12_init_3_36 rfl 0 rfl ?_
            refine rb_null C dJ12_init_3_37 ?_
            obtain ⟨h_171, e_172, hf⟩ := rb_bd hf
            refine rb_hput C fw_J12_17_X14 e_172 rfl rfl dJ12_init_3_38 ?_
            refine rb_aload_n C dJ12_init_3_41 rfl 0 rfl ?_
            refine rb_aload_n C dJ12_init_3_42 rfl 1 rfl ?_
            obtain ⟨h_173, e_174, hf⟩ := rb_bd hf
            refine rb_hput C fw_J12_31_X14 e_174 rfl rfl dJ12_init_3_43 ?_
            refine rb_aload_n C dJ12_init_3_46 rfl 0 rfl ?_
            refine rb_aload_nN C dJ12_init_3_47 rfl 2 rfl ?_
            obtain ⟨h_175, e_176, hf⟩ := rb_bd hf
            refine rb_hput C fw_J12_7_X14 e_176 rfl rfl dJ12_init_3_48 ?_
            refine rb_iload_n C dJ12_init_3_51 rfl 3 rfl ?_
            refine rb_if_ne (tgt := 60) C dJ12_init_3_52 (by decide) (fun c_177 => ?_) (fun c_177 => ?_)
            · have hf := (if_neg c_177).symm.trans hf
              cases hf
              exact rb_vret C rfl hb.e.2.1 hb.e.2.2 dJ12_init_3_60 ⟨rfl, rfl, hb.e.1⟩
            · have hf := (if_pos c_177).symm.trans hf
              refine rb_aload_n C dJ12_init_3_55 rfl 0 rfl ?_
              refine rb_null C dJ12_init_3_56 ?_
              obtain ⟨h_178, e_179, hf⟩ := rb_bd hf
              refine rb_hput C fw_J12_24_X14 e_179 rfl rfl dJ12_init_3_57 ?_
              cases hf
              exact rb_vret C rfl hb.e.2.1 hb.e.2.2 dJ12_init_3_60 ⟨rfl, rfl, hb.e.1⟩
          · have hf := (if_neg c_169).symm.trans hf
            refine rb_aload_n C dJ12_init_3_28 rfl 0 rfl ?_
            cases hf
        | some v_165_q =>
          dsimp only at hf
          obtain ⟨h_180, e_181, hf⟩ := rb_bd hf
          refine rb_hput C fw_J12_24_X14 e_181 rfl rfl dJ12_init_3_20 ?_
          refine rb_iload C dJ12_init_3_23 4 rfl ?_
          refine rb_if_eq (tgt := 36) C dJ12_init_3_25 (by decide) (fun c_182 => ?_) (fun c_182 => ?_)
          · have hf := (if_pos c_182).symm.trans hf
            refine rb_aload_n C dJ12_init_3_36 rfl 0 rfl ?_
            refine rb_null C dJ12_init_3_37 ?_
            obtain ⟨h_184, e_185, hf⟩ := rb_bd hf
            refine rb_hput C fw_J12_17_X14 e_185 rfl rfl dJ12_init_3_38 ?_
            refine rb_aload_n C dJ12_init_3_41 rfl 0 rfl ?_
            refine rb_aload_n C dJ12_init_3_42 rfl 1 rfl ?_
            obtain ⟨h_186, e_187, hf⟩ := rb_bd hf
            refine rb_hput C fw_J12_31_X14 e_187 rfl rfl dJ12_init_3_43 ?_
            refine rb_aload_n C dJ12_init_3_46 rfl 0 rfl ?_
            refine rb_aload_nN C dJ12_init_3_47 rfl 2 rfl ?_
            obtain ⟨h_188, e_189, hf⟩ := rb_bd hf
            refine rb_hput C fw_J12_7_X14 e_189 rfl rfl dJ12_init_3_48 ?_
            refine rb_iload_n C dJ12_init_3_51 rfl 3 rfl ?_
            refine rb_if_ne (tgt := 60) C dJ12_init_3_52 (by decide) (fun c_190 => ?_) (fun c_190 => ?_)
            · have hf := (if_neg c_190).symm.trans hf
              cases hf
              exact rb_vret C rfl hb.e.2.1 hb.e.2.2 dJ12_init_3_60 ⟨rfl, rfl, hb.e.1⟩
            · have hf := (if_pos c_190).symm.trans hf
              refine rb_aload_n C dJ12_init_3_55 rfl 0 rfl ?_
              refine rb_null C dJ12_init_3_56 ?_
              obtain ⟨h_191, e_192, hf⟩ := rb_bd hf
              refine rb_hput C fw_J12_24_X14 e_192 rfl rfl dJ12_init_3_57 ?_
              cases hf
              exact rb_vret C rfl hb.e.2.1 hb.e.2.2 dJ12_init_3_60 ⟨rfl, rfl, hb.e.1⟩
          · have hf := (if_neg c_182).symm.trans hf
            refine rb_aload_n C dJ12_init_3_28 rfl 0 rfl ?_
            cases hf
    | some x2_q =>
      dsimp only at hf
      refine Ct.of rfl (Nat.le_of_ble_eq_true rfl) fun X C hnm => ?_
      have C : Cx Ev X RJ12 cJ12_init_3 5 none [] := C
      show Wa Ev X (rm_J12_init_3_X14 k s) 5 h n 0 0 (rb_MQ Ev X (rm_J12_init_3_X14 k s) (pX (.inl (none)) h' (n + k))) 0 [(0, .ref o), (1, .ref x1_q), (2, .ref x2_q), (3, .int x3), (4, .int x4)] []
      have hb : Bd (n + k) k s n 0 0 k s := ⟨rfl, Nat.le_of_eq (Nat.zero_add _), Nat.le_of_eq (Nat.zero_add _)⟩
      refine rb_aload_n C dJ12_init_3_0 rfl 0 rfl ?_
      refine rb_objInit C q615 q123 q124 dJ12_init_3_1 (Nat.le_of_ble_eq_true rfl) (Nat.le_of_ble_eq_true rfl) ?_
      refine rb_aload_n C dJ12_init_3_4 rfl 0 rfl ?_
      refine rb_aload_n C dJ12_init_3_5 rfl 0 rfl ?_
      obtain ⟨h_193, e_194, hf⟩ := rb_bd hf
      refine rb_hput C fw_J12_7_X14 e_194 rfl rfl dJ12_init_3_6 ?_
      refine rb_aload_n C dJ12_init_3_9 rfl 0 rfl ?_
      obtain ⟨v_195, e_196, hf⟩ := rb_bd hf
      refine rb_hso C q616 q617 e_196 dJ12_init_3_10 ?_
      cases v_195 with
      | none =>
        dsimp only at hf
        obtain ⟨h_197, e_198, hf⟩ := rb_bd hf
        refine rb_hput C fw_J12_17_X14 e_198 rfl rfl dJ12_init_3_13 ?_
        refine rb_aload_n C dJ12_init_3_16 rfl 0 rfl ?_
        obtain ⟨v_199, e_200, hf⟩ := rb_bd hf
        refine rb_hso C q618 q619 e_200 dJ12_init_3_17 ?_
        cases v_199 with
        | none =>
          dsimp only at hf
          obtain ⟨h_201, e_202, hf⟩ := rb_bd hf
          refine rb_hput C fw_J12_24_X14 e_202 rfl rfl dJ12_init_3_20 ?_
          refine rb_iload C dJ12_init_3_23 4 rfl ?_
          refine rb_if_eq (tgt := 36) C dJ12_init_3_25 (by decide) (fun c_203 => ?_) (fun c_203 => ?_)
          · have hf := (if_pos c_203).symm.trans hf
            refine rb_aload_n C dJ12_init_3_36 rfl 0 rfl ?_
            refine rb_null C dJ12_init_3_37 ?_
            obtain ⟨h_205, e_206, hf⟩ := rb_bd hf
            refine rb_hput C fw_J12_17_X14 e_206 rfl rfl dJ12_init_3_38 ?_
            refine rb_aload_n C dJ12_init_3_41 rfl 0 rfl ?_
            refine rb_aload_n C dJ12_init_3_42 rfl 1 rfl ?_
            obtain ⟨h_207, e_208, hf⟩ := rb_bd hf
            refine rb_hput C fw_J12_31_X14 e_208 rfl rfl dJ12_init_3_43 ?_
            refine rb_aload_n C dJ12_init_3_46 rfl 0 rfl ?_
            refine rb_aload_n C dJ12_init_3_47 rfl 2 rfl ?_
            obtain ⟨h_209, e_210, hf⟩ := rb_bd hf
            refine rb_hput C fw_J12_7_X14 e_210 rfl rfl dJ12_init_3_48 ?_
            refine rb_iload_n C dJ12_init_3_51 rfl 3 rfl ?_
            refine rb_if_ne (tgt := 60) C dJ12_init_3_52 (by decide) (fun c_211 => ?_) (fun c_211 => ?_)
            · have hf := (if_neg c_211).symm.trans hf
              cases hf
              exact rb_vret C rfl hb.e.2.1 hb.e.2.2 dJ12_init_3_60 ⟨rfl, rfl, hb.e.1⟩
            · have hf := (if_pos c_211).symm.trans hf
              refine rb_aload_n C dJ12_init_3_55 rfl 0 rfl ?_
              refine rb_null C dJ12_init_3_56 ?_
              obtain ⟨h_212, e_213, hf⟩ := rb_bd hf
              refine rb_hput C fw_J12_24_X14 e_213 rfl rfl dJ12_init_3_57 ?_
              cases hf
              exact rb_vret C rfl hb.e.2.1 hb.e.2.2 dJ12_init_3_60 ⟨rfl, rfl, hb.e.1⟩
          · have hf := (if_neg c_203).symm.trans hf
            refine rb_aload_n C dJ12_init_3_28 rfl 0 rfl ?_
            cases hf
        | some v_199_q =>
          dsimp only at hf
          obtain ⟨h_214, e_215, hf⟩ := rb_bd hf
          refine rb_hput C fw_J12_24_X14 e_215 rfl rfl dJ12_init_3_20 ?_
          refine rb_iload C dJ12_init_3_23 4 rfl ?_
          refine rb_if_eq (tgt := 36) C dJ12_init_3_25 (by decide) (fun c_216 => ?_) (fun c_216 => ?_)
          · have hf := (if_pos c_216).symm.trans hf
            refine rb_aload_n C dJ12_init_3_36 rfl 0 rfl ?_
            refine rb_null C dJ12_init_3_37 ?_
            obtain ⟨h_218, e_219, hf⟩ := rb_bd hf
            refine rb_hput C fw_J12_17_X14 e_219 rfl rfl dJ12_init_3_38 ?_
            refine rb_aload_n C dJ12_init_3_41 rfl 0 rfl ?_
            refine rb_aload_n C dJ12_init_3_42 rfl 1 rfl ?_
            obtain ⟨h_220, e_221, hf⟩ := rb_bd hf
            refine rb_hput C fw_J12_31_X14 e_221 rfl rfl dJ12_init_3_43 ?_
            refine rb_aload_n C dJ12_init_3_46 rfl 0 rfl ?_
            refine rb_aload_n C dJ12_init_3_47 rfl 2 rfl ?_
            obtain ⟨h_222, e_223, hf⟩ := rb_bd hf
            refine rb_hput C fw_J12_7_X14 e_223 rfl rfl dJ12_init_3_48 ?_
            refine rb_iload_n C dJ12_init_3_51 rfl 3 rfl ?_
            refine rb_if_ne (tgt := 60) C dJ12_init_3_52 (by decide) (fun c_224 => ?_) (fun c_224 => ?_)
            · have hf := (if_neg c_224).symm.trans hf
              cases hf
              exact rb_vret C rfl hb.e.2.1 hb.e.2.2 dJ12_init_3_60 ⟨rfl, rfl, hb.e.1⟩
            · have hf := (if_pos c_224).symm.trans hf
              refine rb_aload_n C dJ12_init_3_55 rfl 0 rfl ?_
              refine rb_null C dJ12_init_3_56 ?_
              obtain ⟨h_225, e_226, hf⟩ := rb_bd hf
              refine rb_hput C fw_J12_24_X14 e_226 rfl rfl dJ12_init_3_57 ?_
              cases hf
              exact rb_vret C rfl hb.e.2.1 hb.e.2.2 dJ12_init_3_60 ⟨rfl, rfl, hb.e.1⟩
          · have hf := (if_neg c_216).symm.trans hf
            refine rb_aload_n C dJ12_init_3_28 rfl 0 rfl ?_
            cases hf
      | some v_195_q =>
        dsimp only at hf
        obtain ⟨h_227, e_228, hf⟩ := rb_bd hf
        refine rb_hput C fw_J12_17_X14 e_228 rfl rfl dJ12_init_3_13 ?_
        refine rb_aload_n C dJ12_init_3_16 rfl 0 rfl ?_
        obtain ⟨v_229, e_230, hf⟩ := rb_bd hf
        refine rb_hso C q618 q619 e_230 dJ12_init_3_17 ?_
        cases v_229 with
        | none =>
          dsimp only at hf
          obtain ⟨h_231, e_232, hf⟩ := rb_bd hf
          refine rb_hput C fw_J12_24_X14 e_232 rfl rfl dJ12_init_3_20 ?_
          refine rb_iload C dJ12_init_3_23 4 rfl ?_
          refine rb_if_eq (tgt := 36) C dJ12_init_3_25 (by decide) (fun c_233 => ?_) (fun c_233 => ?_)
          · have hf := (if_pos c_233).symm.trans hf
            refine rb_aload_n C dJ12_init_3_36 rfl 0 rfl ?_
            refine rb_null C dJ12_init_3_37 ?_
            obtain ⟨h_235, e_236, hf⟩ := rb_bd hf
            refine rb_hput C fw_J12_17_X14 e_236 rfl rfl dJ12_init_3_38 ?_
            refine rb_aload_n C dJ12_init_3_41 rfl 0 rfl ?_
            refine rb_aload_n C dJ12_init_3_42 rfl 1 rfl ?_
            obtain ⟨h_237, e_238, hf⟩ := rb_bd hf
            refine rb_hput C fw_J12_31_X14 e_238 rfl rfl dJ12_init_3_43 ?_
            refine rb_aload_n C dJ12_init_3_46 rfl 0 rfl ?_
            refine rb_aload_n C dJ12_init_3_47 rfl 2 rfl ?_
            obtain ⟨h_239, e_240, hf⟩ := rb_bd hf
            refine rb_hput C fw_J12_7_X14 e_240 rfl rfl dJ12_init_3_48 ?_
            refine rb_iload_n C dJ12_init_3_51 rfl 3 rfl ?_
            refine rb_if_ne (tgt := 60) C dJ12_init_3_52 (by decide) (fun c_241 => ?_) (fun c_241 => ?_)
            · have hf := (if_neg c_241).symm.trans hf
              cases hf
              exact rb_vret C rfl hb.e.2.1 hb.e.2.2 dJ12_init_3_60 ⟨rfl, rfl, hb.e.1⟩
            · have hf := (if_pos c_241).symm.trans hf
              refine rb_aload_n C dJ12_init_3_55 rfl 0 rfl ?_
              refine rb_null C dJ12_init_3_56 ?_
              obtain ⟨h_242, e_243, hf⟩ := rb_bd hf
              refine rb_hput C fw_J12_24_X14 e_243 rfl rfl dJ12_init_3_57 ?_
              cases hf
              exact rb_vret C rfl hb.e.2.1 hb.e.2.2 dJ12_init_3_60 ⟨rfl, rfl, hb.e.1⟩
          · have hf := (if_neg c_233).symm.trans hf
            refine rb_aload_n C dJ12_init_3_28 rfl 0 rfl ?_
            cases hf
        | some v_229_q =>
          dsimp only at hf
          obtain ⟨h_244, e_245, hf⟩ := rb_bd hf
          refine rb_hput C fw_J12_24_X14 e_245 rfl rfl dJ12_init_3_20 ?_
          refine rb_iload C dJ12_init_3_23 4 rfl ?_
          refine rb_if_eq (tgt := 36) C dJ12_init_3_25 (by decide) (fun c_246 => ?_) (fun c_246 => ?_)
          · have hf := (if_pos c_246).symm.trans hf
            refine rb_aload_n C dJ12_init_3_36 rfl 0 rfl ?_
            refine rb_null C dJ12_init_3_37 ?_
            obtain ⟨h_248, e_249, hf⟩ := rb_bd hf
            refine rb_hput C fw_J12_17_X14 e_249 rfl rfl dJ12_init_3_38 ?_
            refine rb_aload_n C dJ12_init_3_41 rfl 0 rfl ?_
            refine rb_aload_n C dJ12_init_3_42 rfl 1 rfl ?_
            obtain ⟨h_250, e_251, hf⟩ := rb_bd hf
            refine rb_hput C fw_J12_31_X14 e_251 rfl rfl dJ12_init_3_43 ?_
            refine rb_aload_n C dJ12_init_3_46 rfl 0 rfl ?_
            refine rb_aload_n C dJ12_init_3_47 rfl 2 rfl ?_
            obtain ⟨h_252, e_253, hf⟩ := rb_bd hf
            refine rb_hput C fw_J12_7_X14 e_253 rfl rfl dJ12_init_3_48 ?_
            refine rb_iload_n C dJ12_init_3_51 rfl 3 rfl ?_
            refine rb_if_ne (tgt := 60) C dJ12_init_3_52 (by decide) (fun c_254 => ?_) (fun c_254 => ?_)
            · have hf := (if_neg c_254).symm.trans hf
              cases hf
              exact rb_vret C rfl hb.e.2.1 hb.e.2.2 dJ12_init_3_60 ⟨rfl, rfl, hb.e.1⟩
            · have hf := (if_pos c_254).symm.trans hf
              refine rb_aload_n C dJ12_init_3_55 rfl 0 rfl ?_
              refine rb_null C dJ12_init_3_56 ?_
              obtain ⟨h_255, e_256, hf⟩ := rb_bd hf
              refine rb_hput C fw_J12_24_X14 e_256 rfl rfl dJ12_init_3_57 ?_
              cases hf
              exact rb_vret C rfl hb.e.2.1 hb.e.2.2 dJ12_init_3_60 ⟨rfl, rfl, hb.e.1⟩
          · have hf := (if_neg c_246).symm.trans hf
            refine rb_aload_n C dJ12_init_3_28 rfl 0 rfl ?_
            cases hf
def f_J13_init_3_X14 (Ev : rb_E) (h : AH) (n : Nat) (o : Nat) (x1 : Option Nat) (x2 : Option Nat) (x3 : Int32) (x4 : Int32) : Option (Unit × AH × Nat × Nat) := (match x1 with | none => (match x2 with | none => ((f_J12_init_3_X14 Ev h n o none none x3 x4).bind fun (r_2, h_3, k_4, s_5) => (ad k_4 s_5 (some ((), h_3, 0, 0)))) | some x2_q => ((f_J12_init_3_X14 Ev h n o none (some x2_q) x3 x4).bind fun (r_12, h_13, k_14, s_15) => (ad k_14 s_15 (some ((), h_13, 0, 0))))) | some x1_q => (match x2 with | none => ((f_J12_init_3_X14 Ev h n o (some x1_q) none x3 x4).bind fun (r_22, h_23, k_24, s_25) => (ad k_24 s_25 (some ((), h_23, 0, 0)))) | some x2_q => ((f_J12_init_3_X14 Ev h n o (some x1_q) (some x2_q) x3 x4).bind fun (r_32, h_33, k_34, s_35) => (ad k_34 s_35 (some ((), h_33, 0, 0))))))
abbrev rm_J13_init_3_X14 (k s : Nat) : Room := { frames := 2, cells := k, slots := s, locals := 64 }
set_option maxHeartbeats 4000000 in
theorem ct_J13_init_3_X14 (Ev : rb_E) (h : AH) (n : Nat) (o : Nat) (x1 : Option Nat) (x2 : Option Nat) (x3 : Int32) (x4 : Int32) (r : Unit) (h' : AH) (k s : Nat) (hf : f_J13_init_3_X14 Ev h n o x1 x2 x3 x4 = some (r, h', k, s)) : Ct Ev yJ13_init_3 (ws_ yJ13_init_3 cJ13_init_3 5 none) (rm_J13_init_3_X14 k s) [.ref o, va_rf x1, va_rf x2, .int x3, .int x4] h n (pX (.inl (none)) h' (n + k)) := by
  unfold f_J13_init_3_X14 at hf
  cases x1 with
  | none =>
    dsimp only at hf
    cases x2 with
    | none =>
      dsimp only at hf
      refine Ct.of rfl (Nat.le_of_ble_eq_true rfl) fun X C hnm => ?_
      have C : Cx Ev X RJ13 cJ13_init_3 5 none [] := C
      show Wa Ev X (rm_J13_init_3_X14 k s) 5 h n 0 0 (rb_MQ Ev X (rm_J13_init_3_X14 k s) (pX (.inl (none)) h' (n + k))) 0 [(0, .ref o), (1, .null), (2, .null), (3, .int x3), (4, .int x4)] []
      have hb : Bd (n + k) k s n 0 0 k s := ⟨rfl, Nat.le_of_eq (Nat.zero_add _), Nat.le_of_eq (Nat.zero_add _)⟩
      refine rb_aload_n C dJ13_init_3_0 rfl 0 rfl ?_
      refine rb_aload_nN C dJ13_init_3_1 rfl 1 rfl ?_
      refine rb_aload_nN C dJ13_init_3_2 rfl 2 rfl ?_
      refine rb_iload_n C dJ13_init_3_3 rfl 3 rfl ?_
      refine rb_iload C dJ13_init_3_4 4 rfl ?_
      obtain ⟨⟨r_2, h_3, k_4, s_5⟩, e_6, hf⟩ := rb_bd hf
      obtain ⟨a_9, b_10, hf, ea_7, eb_8⟩ := ad_at hf
      refine rb_callI (As := [.null, .null, .int x3, .int x4]) (rest := []) C mi_J12_init_3 si_J13_16 (ct_J12_init_3_X14 Ev h n o none none x3 x4 r_2 _ _ _ e_6) rfl rfl (Nat.le_of_ble_eq_true rfl) ⟨Nat.le_of_ble_eq_true rfl, Nat.le_of_ble_eq_true rfl, Bd.c1 hb ea_7, Bd.s1 hb eb_8⟩ dJ13_init_3_6 rb_xX (rb_kX (rb_w (kc := (0 + k_4)) (ks := (0 + s_5)) rfl rfl ?_))
      have hb := Bd.ade hb ea_7 eb_8
      cases hf
      exact rb_vret C rfl hb.e.2.1 hb.e.2.2 dJ13_init_3_9 ⟨rfl, rfl, hb.e.1⟩
    | some x2_q =>
      dsimp only at hf
      refine Ct.of rfl (Nat.le_of_ble_eq_true rfl) fun X C hnm => ?_
      have C : Cx Ev X RJ13 cJ13_init_3 5 none [] := C
      show Wa Ev X (rm_J13_init_3_X14 k s) 5 h n 0 0 (rb_MQ Ev X (rm_J13_init_3_X14 k s) (pX (.inl (none)) h' (n + k))) 0 [(0, .ref o), (1, .null), (2, .ref x2_q), (3, .int x3), (4, .int x4)] []
      have hb : Bd (n + k) k s n 0 0 k s := ⟨rfl, Nat.le_of_eq (Nat.zero_add _), Nat.le_of_eq (Nat.zero_add _)⟩
      refine rb_aload_n C dJ13_init_3_0 rfl 0 rfl ?_
      refine rb_aload_nN C dJ13_init_3_1 rfl 1 rfl ?_
      refine rb_aload_n C dJ13_init_3_2 rfl 2 rfl ?_
      refine rb_iload_n C dJ13_init_3_3 rfl 3 rfl ?_
      refine rb_iload C dJ13_init_3_4 4 rfl ?_
      obtain ⟨⟨r_12, h_13, k_14, s_15⟩, e_16, hf⟩ := rb_bd hf
      obtain ⟨a_19, b_20, hf, ea_17, eb_18⟩ := ad_at hf
      refine rb_callI (As := [.null, .ref x2_q, .int x3, .int x4]) (rest := []) C mi_J12_init_3 si_J13_16 (ct_J12_init_3_X14 Ev h n o none (some x2_q) x3 x4 r_12 _ _ _ e_16) rfl rfl (Nat.le_of_ble_eq_true rfl) ⟨Nat.le_of_ble_eq_true rfl, Nat.le_of_ble_eq_true rfl, Bd.c1 hb ea_17, Bd.s1 hb eb_18⟩ dJ13_init_3_6 rb_xX (rb_kX (rb_w (kc := (0 + k_14)) (ks := (0 + s_15)) rfl rfl ?_))
      have hb := Bd.ade hb ea_17 eb_18
      cases hf
      exact rb_vret C rfl hb.e.2.1 hb.e.2.2 dJ13_init_3_9 ⟨rfl, rfl, hb.e.1⟩
  | some x1_q =>
    dsimp only at hf
    cases x2 with
    | none =>
      dsimp only at hf
      refine Ct.of rfl (Nat.le_of_ble_eq_true rfl) fun X C hnm => ?_
      have C : Cx Ev X RJ13 cJ13_init_3 5 none [] := C
      show Wa Ev X (rm_J13_init_3_X14 k s) 5 h n 0 0 (rb_MQ Ev X (rm_J13_init_3_X14 k s) (pX (.inl (none)) h' (n + k))) 0 [(0, .ref o), (1, .ref x1_q), (2, .null), (3, .int x3), (4, .int x4)] []
      have hb : Bd (n + k) k s n 0 0 k s := ⟨rfl, Nat.le_of_eq (Nat.zero_add _), Nat.le_of_eq (Nat.zero_add _)⟩
      refine rb_aload_n C dJ13_init_3_0 rfl 0 rfl ?_
      refine rb_aload_n C dJ13_init_3_1 rfl 1 rfl ?_
      refine rb_aload_nN C dJ13_init_3_2 rfl 2 rfl ?_
      refine rb_iload_n C dJ13_init_3_3 rfl 3 rfl ?_
      refine rb_iload C dJ13_init_3_4 4 rfl ?_
      obtain ⟨⟨r_22, h_23, k_24, s_25⟩, e_26, hf⟩ := rb_bd hf
      obtain ⟨a_29, b_30, hf, ea_27, eb_28⟩ := ad_at hf
      refine rb_callI (As := [.ref x1_q, .null, .int x3, .int x4]) (rest := []) C mi_J12_init_3 si_J13_16 (ct_J12_init_3_X14 Ev h n o (some x1_q) none x3 x4 r_22 _ _ _ e_26) rfl rfl (Nat.le_of_ble_eq_true rfl) ⟨Nat.le_of_ble_eq_true rfl, Nat.le_of_ble_eq_true rfl, Bd.c1 hb ea_27, Bd.s1 hb eb_28⟩ dJ13_init_3_6 rb_xX (rb_kX (rb_w (kc := (0 + k_24)) (ks := (0 + s_25)) rfl rfl ?_))
      have hb := Bd.ade hb ea_27 eb_28
      cases hf
      exact rb_vret C rfl hb.e.2.1 hb.e.2.2 dJ13_init_3_9 ⟨rfl, rfl, hb.e.1⟩
    | some x2_q =>
      dsimp only at hf
      refine Ct.of rfl (Nat.le_of_ble_eq_true rfl) fun X C hnm => ?_
      have C : Cx Ev X RJ13 cJ13_init_3 5 none [] := C
      show Wa Ev X (rm_J13_init_3_X14 k s) 5 h n 0 0 (rb_MQ Ev X (rm_J13_init_3_X14 k s) (pX (.inl (none)) h' (n + k))) 0 [(0, .ref o), (1, .ref x1_q), (2, .ref x2_q), (3, .int x3), (4, .int x4)] []
      have hb : Bd (n + k) k s n 0 0 k s := ⟨rfl, Nat.le_of_eq (Nat.zero_add _), Nat.le_of_eq (Nat.zero_add _)⟩
      refine rb_aload_n C dJ13_init_3_0 rfl 0 rfl ?_
      refine rb_aload_n C dJ13_init_3_1 rfl 1 rfl ?_
      refine rb_aload_n C dJ13_init_3_2 rfl 2 rfl ?_
      refine rb_iload_n C dJ13_init_3_3 rfl 3 rfl ?_
      refine rb_iload C dJ13_init_3_4 4 rfl ?_
      obtain ⟨⟨r_32, h_33, k_34, s_35⟩, e_36, hf⟩ := rb_bd hf
      obtain ⟨a_39, b_40, hf, ea_37, eb_38⟩ := ad_at hf
      refine rb_callI (As := [.ref x1_q, .ref x2_q, .int x3, .int x4]) (rest := []) C mi_J12_init_3 si_J13_16 (ct_J12_init_3_X14 Ev h n o (some x1_q) (some x2_q) x3 x4 r_32 _ _ _ e_36) rfl rfl (Nat.le_of_ble_eq_true rfl) ⟨Nat.le_of_ble_eq_true rfl, Nat.le_of_ble_eq_true rfl, Bd.c1 hb ea_37, Bd.s1 hb eb_38⟩ dJ13_init_3_6 rb_xX (rb_kX (rb_w (kc := (0 + k_34)) (ks := (0 + s_35)) rfl rfl ?_))
      have hb := Bd.ade hb ea_37 eb_38
      cases hf
      exact rb_vret C rfl hb.e.2.1 hb.e.2.2 dJ13_init_3_9 ⟨rfl, rfl, hb.e.1⟩
def f_X14_init (Ev : rb_E) (h : AH) (n : Nat) (o : Nat) (x1 : Int32) : Option (Unit × AH × Nat × Nat) := ((f_J13_init_3_X14 Ev h n o none none 0 0).bind fun (r_2, h_3, k_4, s_5) => (ad k_4 s_5 ((hp_put h_3 o 12 6 (.int x1)).bind fun h_11 => (some ((), h_11, 0, 0)))))
abbrev rm_X14_init (k s : Nat) : Room := { frames := 3, cells := k, slots := s, locals := 88 }
set_option maxHeartbeats 4000000 in
theorem ct_X14_init (Ev : rb_E) (h : AH) (n : Nat) (o : Nat) (x1 : Int32) (r : Unit) (h' : AH) (k s : Nat) (hf : f_X14_init Ev h n o x1 = some (r, h', k, s)) : Ct Ev yX14_init (ws_ yX14_init cX14_init 2 none) (rm_X14_init k s) [.ref o, .int x1] h n (pX (.inl (none)) h' (n + k)) := by
  rw [f_X14_init] at hf
  refine Ct.of rfl (Nat.le_of_ble_eq_true rfl) fun X C hnm => ?_
  have C : Cx Ev X RX14 cX14_init 2 none [] := C
  show Wa Ev X (rm_X14_init k s) 2 h n 0 0 (rb_MQ Ev X (rm_X14_init k s) (pX (.inl (none)) h' (n + k))) 0 [(0, .ref o), (1, .int x1)] []
  have hb : Bd (n + k) k s n 0 0 k s := ⟨rfl, Nat.le_of_eq (Nat.zero_add _), Nat.le_of_eq (Nat.zero_add _)⟩
  refine rb_aload_n C dX14_init_0 rfl 0 rfl ?_
  refine rb_null C dX14_init_1 ?_
  refine rb_null C dX14_init_2 ?_
  refine rb_iconst (v := 0) C dX14_init_3 rfl ?_
  refine rb_iconst (v := 0) C dX14_init_4 rfl ?_
  obtain ⟨⟨r_2, h_3, k_4, s_5⟩, e_6, hf⟩ := rb_bd hf
  obtain ⟨a_9, b_10, hf, ea_7, eb_8⟩ := ad_at hf
  refine rb_callI (As := [.null, .null, .int 0, .int 0]) (rest := []) C mi_J13_init_3 si_X14_1 (ct_J13_init_3_X14 Ev h n o none none 0 0 r_2 _ _ _ e_6) rfl rfl (Nat.le_of_ble_eq_true rfl) ⟨Nat.le_of_ble_eq_true rfl, Nat.le_of_ble_eq_true rfl, Bd.c1 hb ea_7, Bd.s1 hb eb_8⟩ dX14_init_5 rb_xX (rb_kX (rb_w (kc := (0 + k_4)) (ks := (0 + s_5)) rfl rfl ?_))
  have hb := Bd.ade hb ea_7 eb_8
  refine rb_aload_n C dX14_init_8 rfl 0 rfl ?_
  refine rb_iload_n C dX14_init_9 rfl 1 rfl ?_
  obtain ⟨h_11, e_12, hf⟩ := rb_bd hf
  refine rb_hputF C ff_X14_7_X14 hnm e_12 rfl rfl dX14_init_10 ?_
  cases hf
  exact rb_vret C rfl hb.e.2.1 hb.e.2.2 dX14_init_13 ⟨rfl, rfl, hb.e.1⟩
def f_X13_word_j116_83 (Ev : rb_E) (o : Nat) (y2_l6_1 : Nat) (rec_l6_1 : Nat → AH → Nat → Option ((Nat ⊕ (String × Nat)) × AH × Nat × Nat)) (w0_j116_83 : Int32) (h_j116_83 : AH) (n_j116_83 : Nat) : Option ((Nat ⊕ (String × Nat)) × AH × Nat × Nat) := (if w0_j116_83 = 0 then (ad 1 7 (rb_lt (va_up h_j116_83 n_j116_83 (some (.inr (12, [.null, .null, .null, .null, .null, .int 0, .int 0])))) fun h_155 => ((hp_i Ev h_155 o 11 0).bind fun v_156 => ((f_X14_init Ev h_155 (n_j116_83 + 1) n_j116_83 v_156).bind fun (r_159, h_160, k_161, s_162) => (ad k_161 s_162 ((hp_k Ev h_160 n_j116_83 12).bind fun u_169 => (some (.inr ("RainbowOperators$SyntaxFault", n_j116_83), h_160, 0, 0)))))))) else (ad 1 4 (rb_lt (va_up h_j116_83 n_j116_83 (some (.inr (13, [.null, .int 0, .int 0, .int 0])))) fun h_89 => ((f_J1_init Ev h_89 (n_j116_83 + 1) n_j116_83).bind fun (r_91, h_92, k_93, s_94) => (ad k_93 s_94 ((hp_k Ev h_92 n_j116_83 13).bind fun u_100 => ((f_J1_append_3 Ev h_92 ((n_j116_83 + 1) + k_93) n_j116_83 y2_l6_1).bind fun (r_103, h_104, k_105, s_106) => (ad k_105 s_106 ((hp_p Ev h_104 o 11 1).bind fun v_112 => ((hp_p Ev h_104 v_112 0 2).bind fun v_114 => ((hp_i Ev h_104 o 11 0).bind fun v_116 => ((hp_k Ev h_104 v_114 13).bind fun u_118 => ((f_J1_charAt Ev h_104 v_114 v_116).bind fun v_121 => ((hp_k Ev h_104 r_103 13).bind fun u_123 => ((f_J1_append_7 Ev h_104 (((n_j116_83 + 1) + k_93) + k_105) r_103 v_121).bind fun (r_126, h_127, k_128, s_129) => (ad k_128 s_129 ((hp_k Ev h_127 r_126 13).bind fun u_135 => ((f_J1_toString Ev h_127 ((((n_j116_83 + 1) + k_93) + k_105) + k_128) r_126).bind fun (r_138, h_139, k_140, s_141) => (ad k_140 s_141 ((hp_i Ev h_139 o 11 0).bind fun v_147 => ((hp_put h_139 o 11 0 (.int (v_147 + 1))).bind fun h_149 => (rec_l6_1 r_138 h_149 (((((n_j116_83 + 1) + k_93) + k_105) + k_128) + k_140)))))))))))))))))))))))
def f_X13_word_l6_1 (Ev : rb_E) (o : Nat) : Nat → Nat → AH → Nat → Option ((Nat ⊕ (String × Nat)) × AH × Nat × Nat)
  | 0, _, _, _ => none
  | k_l6_1 + 1, y2_l6_1, h_l6_1, n_l6_1 => (ad 1 4 (rb_lt (va_up h_l6_1 n_l6_1 (some (.inr (13, [.null, .int 0, .int 0, .int 0])))) fun h_6 => ((f_J1_init Ev h_6 (n_l6_1 + 1) n_l6_1).bind fun (r_8, h_9, k_10, s_11) => (ad k_10 s_11 ((hp_k Ev h_9 n_l6_1 13).bind fun u_17 => ((f_J1_append_3 Ev h_9 ((n_l6_1 + 1) + k_10) n_l6_1 y2_l6_1).bind fun (r_20, h_21, k_22, s_23) => (ad k_22 s_23 ((hp_k Ev h_21 r_20 13).bind fun u_29 => ((f_J1_append_3 Ev h_21 (((n_l6_1 + 1) + k_10) + k_22) r_20 (eS Ev RX13 56)).bind fun (r_32, h_33, k_34, s_35) => (ad k_34 s_35 ((hp_k Ev h_33 r_32 13).bind fun u_41 => ((f_J1_toString Ev h_33 ((((n_l6_1 + 1) + k_10) + k_22) + k_34) r_32).bind fun (r_44, h_45, k_46, s_47) => (ad k_46 s_47 ((hp_k Ev h_45 (eS Ev RX13 54) 14).bind fun u_53 => ((f_J2_indexOf_3 Ev h_45 (eS Ev RX13 54) r_44).bind fun v_56 => (if 0 ≤ v_56 then ((hp_k Ev h_45 y2_l6_1 14).bind fun u_59 => ((f_J2_substring_2 Ev h_45 (((((n_l6_1 + 1) + k_10) + k_22) + k_34) + k_46) y2_l6_1 1).bind fun (r_62, h_63, k_64, s_65) => (ad k_64 s_65 (some (.inl r_62, h_63, 0, 0))))) else ((hp_i Ev h_45 o 11 0).bind fun v_71 => ((hp_p Ev h_45 o 11 1).bind fun v_73 => ((hp_p Ev h_45 v_73 0 2).bind fun v_75 => ((hp_k Ev h_45 v_75 13).bind fun u_77 => ((f_J1_length Ev h_45 v_75).bind fun v_80 => (if v_80 ≤ v_71 then (f_X13_word_j116_83 Ev o y2_l6_1 (f_X13_word_l6_1 Ev o k_l6_1) 0 h_45 (((((n_l6_1 + 1) + k_10) + k_22) + k_34) + k_46)) else ((hp_p Ev h_45 o 11 1).bind fun v_170 => ((hp_p Ev h_45 v_170 0 2).bind fun v_172 => ((hp_i Ev h_45 o 11 0).bind fun v_174 => ((hp_k Ev h_45 v_172 13).bind fun u_176 => ((f_J1_charAt Ev h_45 v_172 v_174).bind fun v_179 => (if (f_X1_inRange v_179 97 122) = 0 then (f_X13_word_j116_83 Ev o y2_l6_1 (f_X13_word_l6_1 Ev o k_l6_1) 0 h_45 (((((n_l6_1 + 1) + k_10) + k_22) + k_34) + k_46)) else (ad 1 4 (rb_lt (va_up h_45 (((((n_l6_1 + 1) + k_10) + k_22) + k_34) + k_46) (some (.inr (13, [.null, .int 0, .int 0, .int 0])))) fun h_187 => ((f_J1_init Ev h_187 ((((((n_l6_1 + 1) + k_10) + k_22) + k_34) + k_46) + 1) (((((n_l6_1 + 1) + k_10) + k_22) + k_34) + k_46)).bind fun (r_189, h_190, k_191, s_192) => (ad k_191 s_192 ((hp_k Ev h_190 (((((n_l6_1 + 1) + k_10) + k_22) + k_34) + k_46) 13).bind fun u_198 => ((f_J1_append_3 Ev h_190 (((((((n_l6_1 + 1) + k_10) + k_22) + k_34) + k_46) + 1) + k_191) (((((n_l6_1 + 1) + k_10) + k_22) + k_34) + k_46) y2_l6_1).bind fun (r_201, h_202, k_203, s_204) => (ad k_203 s_204 ((hp_p Ev h_202 o 11 1).bind fun v_210 => ((hp_p Ev h_202 v_210 0 2).bind fun v_212 => ((hp_i Ev h_202 o 11 0).bind fun v_214 => ((hp_k Ev h_202 v_212 13).bind fun u_216 => ((f_J1_charAt Ev h_202 v_212 v_214).bind fun v_219 => ((hp_k Ev h_202 r_201 13).bind fun u_221 => ((f_J1_append_7 Ev h_202 ((((((((n_l6_1 + 1) + k_10) + k_22) + k_34) + k_46) + 1) + k_191) + k_203) r_201 v_219).bind fun (r_224, h_225, k_226, s_227) => (ad k_226 s_227 ((hp_k Ev h_225 r_224 13).bind fun u_233 => ((f_J1_toString Ev h_225 (((((((((n_l6_1 + 1) + k_10) + k_22) + k_34) + k_46) + 1) + k_191) + k_203) + k_226) r_224).bind fun (r_236, h_237, k_238, s_239) => (ad k_238 s_239 ((hp_k Ev h_237 (eS Ev RX13 54) 14).bind fun u_245 => ((f_J2_indexOf_3 Ev h_237 (eS Ev RX13 54) r_236).bind fun v_248 => (if v_248 < 0 then (f_X13_word_j116_83 Ev o y2_l6_1 (f_X13_word_l6_1 Ev o k_l6_1) 0 h_237 ((((((((((n_l6_1 + 1) + k_10) + k_22) + k_34) + k_46) + 1) + k_191) + k_203) + k_226) + k_238)) else (f_X13_word_j116_83 Ev o y2_l6_1 (f_X13_word_l6_1 Ev o k_l6_1) 1 h_237 ((((((((((n_l6_1 + 1) + k_10) + k_22) + k_34) + k_46) + 1) + k_191) + k_203) + k_226) + k_238)))))))))))))))))))))))))))))))))))))))))))))))))))
def f_X13_word (Ev : rb_E) (h : AH) (n : Nat) (o : Nat) : Option ((Nat ⊕ (String × Nat)) × AH × Nat × Nat) := (f_X13_word_l6_1 Ev o 4096 (eS Ev RX13 56) h n)
abbrev rm_X13_word (k s : Nat) : Room := { frames := 10, cells := k, slots := s, locals := 223 }
set_option maxHeartbeats 4000000 in
theorem ct_X13_word (Ev : rb_E) (h : AH) (n : Nat) (o : Nat) (r : Nat ⊕ (String × Nat)) (h' : AH) (k s : Nat) (hf : f_X13_word Ev h n o = some (r, h', k, s)) : Ct Ev yX13_word (ws_ yX13_word cX13_word 4 (some (.object "java/lang/String"))) (rm_X13_word k s) [.ref o] h n (pX (rMap (fun v => some (.ref v)) r) h' (n + k)) := by
  rw [f_X13_word] at hf
  refine Ct.of rfl (Nat.le_of_ble_eq_true rfl) fun X C hnm => ?_
  have C : Cx Ev X RX13 cX13_word 4 (some (.object "java/lang/String")) [] := C
  show Wa Ev X (rm_X13_word k s) 4 h n 0 0 (rb_MQ Ev X (rm_X13_word k s) (pX (rMap (fun v => some (.ref v)) r) h' (n + k))) 0 [(0, .ref o)] []
  have hb : Bd (n + k) k s n 0 0 k s := ⟨rfl, Nat.le_of_eq (Nat.zero_add _), Nat.le_of_eq (Nat.zero_add _)⟩
  refine rb_ldcS C q1973 dX13_word_0 ?_
  refine rb_astore_n (lv' := [(1, .ref (eS Ev RX13 54)), (0, .ref o)]) C dX13_word_2 rfl (by decide) rfl ?_
  refine rb_ldcS C q1974 dX13_word_3 ?_
  refine rb_astore_n (lv' := [(2, .ref (eS Ev RX13 56)), (1, .ref (eS Ev RX13 54)), (0, .ref o)]) C dX13_word_5 rfl (by decide) rfl ?_
  have L_l6_1 : ∀ (k_l6_1 : Nat) (y2_l6_1 : Nat) (h_l6_1 : AH) (n_l6_1 kc_l6_1 ks_l6_1 a_ b_ : Nat), f_X13_word_l6_1 Ev o k_l6_1 y2_l6_1 h_l6_1 n_l6_1 = some (r, h', a_, b_) → Bd (n + k) k s n_l6_1 kc_l6_1 ks_l6_1 a_ b_ → Wa Ev X (rm_X13_word k s) 4 h_l6_1 n_l6_1 kc_l6_1 ks_l6_1 (rb_MQ Ev X (rm_X13_word k s) (pX (rMap (fun v => some (.ref v)) r) h' (n + k))) 6 [(0, .ref o), (1, .ref (eS Ev RX13 54)), (2, .ref y2_l6_1)] [] := by
    intro k_l6_1
    induction k_l6_1 with
    | zero => intro y2_l6_1 h_l6_1 n_l6_1 kc_l6_1 ks_l6_1 a_ b_ hf hb; cases hf
    | succ k_l6_1 ih_l6_1 =>
      intro y2_l6_1 h_l6_1 n_l6_1 kc_l6_1 ks_l6_1 a_ b_ hf hb
      rw [f_X13_word_l6_1] at hf
      refine rb_aload_n C dX13_word_6 rfl 1 rfl ?_
      obtain ⟨a_4, b_5, hf, ea_2, eb_3⟩ := ad_at hf
      refine rb_hnew C ck_J1 q1975 q132 q72 [.null, .int 0, .int 0, .int 0] rfl (Bd.c1 hb ea_2) (Bd.s1 hb eb_3) dX13_word_7 ?_
      have hb := Bd.ade hb ea_2 eb_3
      obtain ⟨h_6, e_h_6⟩ : ∃ z, z = (va_up h_l6_1 n_l6_1 (some (.inr (13, [.null, .int 0, .int 0, .int 0])))) := ⟨_, rfl⟩
      rw [← e_h_6]
      have hf := rb_let hf e_h_6
      refine rb_dup C dX13_word_10 rfl ?_
      obtain ⟨⟨r_8, h_9, k_10, s_11⟩, e_12, hf⟩ := rb_bd hf
      obtain ⟨a_15, b_16, hf, ea_13, eb_14⟩ := ad_at hf
      refine rb_callI (As := []) (rest := [.ref n_l6_1, .ref (eS Ev RX13 54)]) C mi_J1_init si_X13_58 (ct_J1_init Ev h_6 (n_l6_1 + 1) n_l6_1 r_8 _ _ _ e_12) rfl rfl (Nat.le_of_ble_eq_true rfl) ⟨Nat.le_of_ble_eq_true rfl, Nat.le_of_ble_eq_true rfl, Bd.c1 hb ea_13, Bd.s1 hb eb_14⟩ dX13_word_11 rb_xX (rb_kX (rb_w (kc := ((kc_l6_1 + 1) + k_10)) (ks := ((ks_l6_1 + 4) + s_11)) rfl rfl ?_))
      have hb := Bd.ade hb ea_13 eb_14
      refine rb_aload_n C dX13_word_14 rfl 2 rfl ?_
      obtain ⟨u_17, e_18, hf⟩ := rb_bd hf
      obtain ⟨⟨r_20, h_21, k_22, s_23⟩, e_24, hf⟩ := rb_bd hf
      obtain ⟨a_27, b_28, hf, ea_25, eb_26⟩ := ad_at hf
      refine rb_callV (As := [.ref y2_l6_1]) (rest := [.ref (eS Ev RX13 54)]) C mi_J1_append_3 sv_X13_59 (hp_k_isC C.pf e_18 ck_J1) (ct_J1_append_3 Ev h_9 ((n_l6_1 + 1) + k_10) n_l6_1 y2_l6_1 r_20 _ _ _ e_24) rfl rfl (Nat.le_of_ble_eq_true rfl) ⟨Nat.le_of_ble_eq_true rfl, Nat.le_of_ble_eq_true rfl, Bd.c1 hb ea_25, Bd.s1 hb eb_26⟩ dX13_word_15 rb_xX (rb_kX (rb_w (kc := (((kc_l6_1 + 1) + k_10) + k_22)) (ks := (((ks_l6_1 + 4) + s_11) + s_23)) rfl rfl ?_))
      have hb := Bd.ade hb ea_25 eb_26
      refine rb_ldcS C q1974 dX13_word_18 ?_
      obtain ⟨u_29, e_30, hf⟩ := rb_bd hf
      obtain ⟨⟨r_32, h_33, k_34, s_35⟩, e_36, hf⟩ := rb_bd hf
      obtain ⟨a_39, b_40, hf, ea_37, eb_38⟩ := ad_at hf
      refine rb_callV (As := [.ref (eS Ev RX13 56)]) (rest := [.ref (eS Ev RX13 54)]) C mi_J1_append_3 sv_X13_59 (hp_k_isC C.pf e_30 ck_J1) (ct_J1_append_3 Ev h_21 (((n_l6_1 + 1) + k_10) + k_22) r_20 (eS Ev RX13 56) r_32 _ _ _ e_36) rfl rfl (Nat.le_of_ble_eq_true rfl) ⟨Nat.le_of_ble_eq_true rfl, Nat.le_of_ble_eq_true rfl, Bd.c1 hb ea_37, Bd.s1 hb eb_38⟩ dX13_word_20 rb_xX (rb_kX (rb_w (kc := ((((kc_l6_1 + 1) + k_10) + k_22) + k_34)) (ks := ((((ks_l6_1 + 4) + s_11) + s_23) + s_35)) rfl rfl ?_))
      have hb := Bd.ade hb ea_37 eb_38
      obtain ⟨u_41, e_42, hf⟩ := rb_bd hf
      obtain ⟨⟨r_44, h_45, k_46, s_47⟩, e_48, hf⟩ := rb_bd hf
      obtain ⟨a_51, b_52, hf, ea_49, eb_50⟩ := ad_at hf
      refine rb_callV (As := []) (rest := [.ref (eS Ev RX13 54)]) C mi_J1_toString sv_X13_63 (hp_k_isC C.pf e_42 ck_J1) (ct_J1_toString Ev h_33 ((((n_l6_1 + 1) + k_10) + k_22) + k_34) r_32 r_44 _ _ _ e_48) rfl rfl (Nat.le_of_ble_eq_true rfl) ⟨Nat.le_of_ble_eq_true rfl, Nat.le_of_ble_eq_true rfl, Bd.c1 hb ea_49, Bd.s1 hb eb_50⟩ dX13_word_23 rb_xX (rb_kX (rb_w (kc := (((((kc_l6_1 + 1) + k_10) + k_22) + k_34) + k_46)) (ks := (((((ks_l6_1 + 4) + s_11) + s_23) + s_35) + s_47)) rfl rfl ?_))
      have hb := Bd.ade hb ea_49 eb_50
      obtain ⟨u_53, e_54, hf⟩ := rb_bd hf
      obtain ⟨v_56, e_57, hf⟩ := rb_bd hf
      refine rb_callV (As := [.ref r_44]) (rest := []) C mi_J2_indexOf_3 sv_X13_67 (hp_k_isC C.pf e_54 ck_J2) (ct_J2_indexOf_3 Ev h_45 (((((n_l6_1 + 1) + k_10) + k_22) + k_34) + k_46) (eS Ev RX13 54) r_44 _ e_57) rfl rfl (Nat.le_of_ble_eq_true rfl) ⟨Nat.le_of_ble_eq_true rfl, Nat.le_of_ble_eq_true rfl, hb.c0, hb.s0⟩ dX13_word_26 rb_xXi (rb_kXi fun hn_55 => (rb_w (kc := (((((kc_l6_1 + 1) + k_10) + k_22) + k_34) + k_46)) (ks := (((((ks_l6_1 + 4) + s_11) + s_23) + s_35) + s_47)) rfl rfl ?_))
      refine rb_if_ge (tgt := 178) C dX13_word_29 (by decide) (fun c_58 => ?_) (fun c_58 => ?_)
      · have hf := (if_pos c_58).symm.trans hf
        refine rb_aload_n C dX13_word_178 rfl 2 rfl ?_
        refine rb_iconst (v := 1) C dX13_word_179 rfl ?_
        obtain ⟨u_59, e_60, hf⟩ := rb_bd hf
        obtain ⟨⟨r_62, h_63, k_64, s_65⟩, e_66, hf⟩ := rb_bd hf
        obtain ⟨a_69, b_70, hf, ea_67, eb_68⟩ := ad_at hf
        refine rb_callV (As := [.int 1]) (rest := []) C mi_J2_substring_2 sv_X13_77 (hp_k_isC C.pf e_60 ck_J2) (ct_J2_substring_2 Ev h_45 (((((n_l6_1 + 1) + k_10) + k_22) + k_34) + k_46) y2_l6_1 1 r_62 _ _ _ e_66) rfl rfl (Nat.le_of_ble_eq_true rfl) ⟨Nat.le_of_ble_eq_true rfl, Nat.le_of_ble_eq_true rfl, Bd.c1 hb ea_67, Bd.s1 hb eb_68⟩ dX13_word_180 rb_xX (rb_kX (rb_w (kc := ((((((kc_l6_1 + 1) + k_10) + k_22) + k_34) + k_46) + k_64)) (ks := ((((((ks_l6_1 + 4) + s_11) + s_23) + s_35) + s_47) + s_65)) rfl rfl ?_))
        have hb := Bd.ade hb ea_67 eb_68
        cases hf
        exact rb_aret C rfl (Or.inl ⟨_, rfl⟩) (Or.inr ⟨_, rfl⟩) hb.e.2.1 hb.e.2.2 dX13_word_183 ⟨rfl, rfl, hb.e.1⟩
      · have hf := (if_neg c_58).symm.trans hf
        refine rb_aload_n C dX13_word_32 rfl 0 rfl ?_
        obtain ⟨v_71, e_72, hf⟩ := rb_bd hf
        refine rb_hI C fl_X13_15_X13 e_72 dX13_word_33 ?_
        refine rb_aload_n C dX13_word_36 rfl 0 rfl ?_
        obtain ⟨v_73, e_74, hf⟩ := rb_bd hf
        refine rb_hP C fl_X13_3_X13 e_74 dX13_word_37 ?_
        obtain ⟨v_75, e_76, hf⟩ := rb_bd hf
        refine rb_hP C fl_X13_19_X1 e_76 dX13_word_40 ?_
        obtain ⟨u_77, e_78, hf⟩ := rb_bd hf
        obtain ⟨v_80, e_81, hf⟩ := rb_bd hf
        refine rb_callV (As := []) (rest := [.int v_71]) C mi_J1_length sv_X13_23 (hp_k_isC C.pf e_78 ck_J1) (ct_J1_length Ev h_45 (((((n_l6_1 + 1) + k_10) + k_22) + k_34) + k_46) v_75 _ e_81) rfl rfl (Nat.le_of_ble_eq_true rfl) ⟨Nat.le_of_ble_eq_true rfl, Nat.le_of_ble_eq_true rfl, hb.c0, hb.s0⟩ dX13_word_43 rb_xXi (rb_kXi fun hn_79 => (rb_w (kc := (((((kc_l6_1 + 1) + k_10) + k_22) + k_34) + k_46)) (ks := (((((ks_l6_1 + 4) + s_11) + s_23) + s_35) + s_47)) rfl rfl ?_))
        have J_j116_83 : ∀ (w0_j116_83 : Int32) (h_j116_83 : AH) (n_j116_83 : Nat) (kc_j116_83 ks_j116_83 a_ b_ : Nat), f_X13_word_j116_83 Ev o y2_l6_1 (f_X13_word_l6_1 Ev o k_l6_1) w0_j116_83 h_j116_83 n_j116_83 = some (r, h', a_, b_) → Bd (n + k) k s n_j116_83 kc_j116_83 ks_j116_83 a_ b_ → Wa Ev X (rm_X13_word k s) 4 h_j116_83 n_j116_83 kc_j116_83 ks_j116_83 (rb_MQ Ev X (rm_X13_word k s) (pX (rMap (fun v => some (.ref v)) r) h' (n + k))) 116 [(0, .ref o), (1, .ref (eS Ev RX13 54)), (2, .ref y2_l6_1)] [.int w0_j116_83] := by
          intro w0_j116_83 h_j116_83 n_j116_83 kc_j116_83 ks_j116_83 a_ b_ hf hb
          rw [f_X13_word_j116_83] at hf
          refine rb_istore_n (lv' := [(3, .int w0_j116_83), (0, .ref o), (1, .ref (eS Ev RX13 54)), (2, .ref y2_l6_1)]) C dX13_word_116 rfl (by decide) rfl ?_
          refine rb_iload_n C dX13_word_117 rfl 0 rfl ?_
          refine rb_if_ne (tgt := 133) C dX13_word_118 (by decide) (fun c_84 => ?_) (fun c_84 => ?_)
          · have hf := (if_neg c_84).symm.trans hf
            obtain ⟨a_87, b_88, hf, ea_85, eb_86⟩ := ad_at hf
            refine rb_hnew C ck_J1 q1975 q132 q72 [.null, .int 0, .int 0, .int 0] rfl (Bd.c1 hb ea_85) (Bd.s1 hb eb_86) dX13_word_133 ?_
            have hb := Bd.ade hb ea_85 eb_86
            obtain ⟨h_89, e_h_89⟩ : ∃ z, z = (va_up h_j116_83 n_j116_83 (some (.inr (13, [.null, .int 0, .int 0, .int 0])))) := ⟨_, rfl⟩
            rw [← e_h_89]
            have hf := rb_let hf e_h_89
            refine rb_dup C dX13_word_136 rfl ?_
            obtain ⟨⟨r_91, h_92, k_93, s_94⟩, e_95, hf⟩ := rb_bd hf
            obtain ⟨a_98, b_99, hf, ea_96, eb_97⟩ := ad_at hf
            refine rb_callI (As := []) (rest := [.ref n_j116_83]) C mi_J1_init si_X13_58 (ct_J1_init Ev h_89 (n_j116_83 + 1) n_j116_83 r_91 _ _ _ e_95) rfl rfl (Nat.le_of_ble_eq_true rfl) ⟨Nat.le_of_ble_eq_true rfl, Nat.le_of_ble_eq_true rfl, Bd.c1 hb ea_96, Bd.s1 hb eb_97⟩ dX13_word_137 rb_xX (rb_kX (rb_w (kc := ((kc_j116_83 + 1) + k_93)) (ks := ((ks_j116_83 + 4) + s_94)) rfl rfl ?_))
            have hb := Bd.ade hb ea_96 eb_97
            refine rb_aload_n C dX13_word_140 rfl 3 rfl ?_
            obtain ⟨u_100, e_101, hf⟩ := rb_bd hf
            obtain ⟨⟨r_103, h_104, k_105, s_106⟩, e_107, hf⟩ := rb_bd hf
            obtain ⟨a_110, b_111, hf, ea_108, eb_109⟩ := ad_at hf
            refine rb_callV (As := [.ref y2_l6_1]) (rest := []) C mi_J1_append_3 sv_X13_59 (hp_k_isC C.pf e_101 ck_J1) (ct_J1_append_3 Ev h_92 ((n_j116_83 + 1) + k_93) n_j116_83 y2_l6_1 r_103 _ _ _ e_107) rfl rfl (Nat.le_of_ble_eq_true rfl) ⟨Nat.le_of_ble_eq_true rfl, Nat.le_of_ble_eq_true rfl, Bd.c1 hb ea_108, Bd.s1 hb eb_109⟩ dX13_word_141 rb_xX (rb_kX (rb_w (kc := (((kc_j116_83 + 1) + k_93) + k_105)) (ks := (((ks_j116_83 + 4) + s_94) + s_106)) rfl rfl ?_))
            have hb := Bd.ade hb ea_108 eb_109
            refine rb_aload_n C dX13_word_144 rfl 1 rfl ?_
            obtain ⟨v_112, e_113, hf⟩ := rb_bd hf
            refine rb_hP C fl_X13_3_X13 e_113 dX13_word_145 ?_
            obtain ⟨v_114, e_115, hf⟩ := rb_bd hf
            refine rb_hP C fl_X13_19_X1 e_115 dX13_word_148 ?_
            refine rb_aload_n C dX13_word_151 rfl 1 rfl ?_
            obtain ⟨v_116, e_117, hf⟩ := rb_bd hf
            refine rb_hI C fl_X13_15_X13 e_117 dX13_word_152 ?_
            obtain ⟨u_118, e_119, hf⟩ := rb_bd hf
            obtain ⟨v_121, e_122, hf⟩ := rb_bd hf
            refine rb_callV (As := [.int v_116]) (rest := [.ref r_103]) C mi_J1_charAt sv_X13_29 (hp_k_isC C.pf e_119 ck_J1) (ct_J1_charAt Ev h_104 (((n_j116_83 + 1) + k_93) + k_105) v_114 v_116 _ e_122) rfl rfl (Nat.le_of_ble_eq_true rfl) ⟨Nat.le_of_ble_eq_true rfl, Nat.le_of_ble_eq_true rfl, hb.c0, hb.s0⟩ dX13_word_155 rb_xXi (rb_kXi fun hn_120 => (rb_w (kc := (((kc_j116_83 + 1) + k_93) + k_105)) (ks := (((ks_j116_83 + 4) + s_94) + s_106)) rfl rfl ?_))
            obtain ⟨u_123, e_124, hf⟩ := rb_bd hf
            obtain ⟨⟨r_126, h_127, k_128, s_129⟩, e_130, hf⟩ := rb_bd hf
            obtain ⟨a_133, b_134, hf, ea_131, eb_132⟩ := ad_at hf
            refine rb_callV (As := [.int v_121]) (rest := []) C mi_J1_append_7 sv_X13_74 (hp_k_isC C.pf e_124 ck_J1) (ct_J1_append_7 Ev h_104 (((n_j116_83 + 1) + k_93) + k_105) r_103 v_121 r_126 _ _ _ e_130) rfl rfl (Nat.le_of_ble_eq_true rfl) ⟨Nat.le_of_ble_eq_true rfl, Nat.le_of_ble_eq_true rfl, Bd.c1 hb ea_131, Bd.s1 hb eb_132⟩ dX13_word_158 rb_xX (rb_kX (rb_w (kc := ((((kc_j116_83 + 1) + k_93) + k_105) + k_128)) (ks := ((((ks_j116_83 + 4) + s_94) + s_106) + s_129)) rfl rfl ?_))
            have hb := Bd.ade hb ea_131 eb_132
            obtain ⟨u_135, e_136, hf⟩ := rb_bd hf
            obtain ⟨⟨r_138, h_139, k_140, s_141⟩, e_142, hf⟩ := rb_bd hf
            obtain ⟨a_145, b_146, hf, ea_143, eb_144⟩ := ad_at hf
            refine rb_callV (As := []) (rest := []) C mi_J1_toString sv_X13_63 (hp_k_isC C.pf e_136 ck_J1) (ct_J1_toString Ev h_127 ((((n_j116_83 + 1) + k_93) + k_105) + k_128) r_126 r_138 _ _ _ e_142) rfl rfl (Nat.le_of_ble_eq_true rfl) ⟨Nat.le_of_ble_eq_true rfl, Nat.le_of_ble_eq_true rfl, Bd.c1 hb ea_143, Bd.s1 hb eb_144⟩ dX13_word_161 rb_xX (rb_kX (rb_w (kc := (((((kc_j116_83 + 1) + k_93) + k_105) + k_128) + k_140)) (ks := (((((ks_j116_83 + 4) + s_94) + s_106) + s_129) + s_141)) rfl rfl ?_))
            have hb := Bd.ade hb ea_143 eb_144
            refine rb_astore_n (lv' := [(2, .ref r_138), (3, .int w0_j116_83), (0, .ref o), (1, .ref (eS Ev RX13 54))]) C dX13_word_164 rfl (by decide) rfl ?_
            refine rb_aload_n C dX13_word_165 rfl 2 rfl ?_
            refine rb_dup C dX13_word_166 rfl ?_
            obtain ⟨v_147, e_148, hf⟩ := rb_bd hf
            refine rb_hI C fl_X13_15_X13 e_148 dX13_word_167 ?_
            refine rb_iconst (v := 1) C dX13_word_170 rfl ?_
            refine rb_iadd C dX13_word_171 ?_
            obtain ⟨h_149, e_150, hf⟩ := rb_bd hf
            refine rb_hput C fw_X13_15_X13 e_150 rfl rfl dX13_word_172 ?_
            refine rb_goto (tgt := 6) C dX13_word_175 (by decide) ?_
            refine rb_sub [2, 3, 0] rfl ?_
            exact ih_l6_1 r_138 h_149 (((((n_j116_83 + 1) + k_93) + k_105) + k_128) + k_140) _ _ _ _ hf hb
          · have hf := (if_pos c_84).symm.trans hf
            obtain ⟨a_153, b_154, hf, ea_151, eb_152⟩ := ad_at hf
            refine rb_hnew C ck_X14 q2005 q2006 q113 [.null, .null, .null, .null, .null, .int 0, .int 0] rfl (Bd.c1 hb ea_151) (Bd.s1 hb eb_152) dX13_word_121 ?_
            have hb := Bd.ade hb ea_151 eb_152
            obtain ⟨h_155, e_h_155⟩ : ∃ z, z = (va_up h_j116_83 n_j116_83 (some (.inr (12, [.null, .null, .null, .null, .null, .int 0, .int 0])))) := ⟨_, rfl⟩
            rw [← e_h_155]
            have hf := rb_let hf e_h_155
            refine rb_dup C dX13_word_124 rfl ?_
            refine rb_aload_n C dX13_word_125 rfl 1 rfl ?_
            obtain ⟨v_156, e_157, hf⟩ := rb_bd hf
            refine rb_hI C fl_X13_15_X13 e_157 dX13_word_126 ?_
            obtain ⟨⟨r_159, h_160, k_161, s_162⟩, e_163, hf⟩ := rb_bd hf
            obtain ⟨a_166, b_167, hf, ea_164, eb_165⟩ := ad_at hf
            refine rb_callI (As := [.int v_156]) (rest := [.ref n_j116_83]) C mi_X14_init si_X13_45 (ct_X14_init Ev h_155 (n_j116_83 + 1) n_j116_83 v_156 r_159 _ _ _ e_163) rfl rfl (Nat.le_of_ble_eq_true rfl) ⟨Nat.le_of_ble_eq_true rfl, Nat.le_of_ble_eq_true rfl, Bd.c1 hb ea_164, Bd.s1 hb eb_165⟩ dX13_word_129 rb_xX (rb_kX (rb_w (kc := ((kc_j116_83 + 1) + k_161)) (ks := ((ks_j116_83 + 7) + s_162)) rfl rfl ?_))
            have hb := Bd.ade hb ea_164 eb_165
            obtain ⟨u_169, e_168, hf⟩ := rb_bd hf
            refine rb_hthrow (rest := []) C ck_X14 e_168 dX13_word_132 ?_
            cases hf
            exact rb_out C (fun _ z => absurd z List.not_mem_nil) hb.e.2.1 hb.e.2.2 ⟨rfl, rfl, hb.e.1⟩
        refine rb_icmp_ge (tgt := 115) C dX13_word_46 (by decide) (fun c_82 => ?_) (fun c_82 => ?_)
        · have hf := (if_pos c_82).symm.trans hf
          refine rb_iconst (v := 0) C dX13_word_115 rfl ?_
          exact J_j116_83 0 h_45 (((((n_l6_1 + 1) + k_10) + k_22) + k_34) + k_46)  _ _ _ _ hf hb
        · have hf := (if_neg c_82).symm.trans hf
          refine rb_aload_n C dX13_word_49 rfl 0 rfl ?_
          obtain ⟨v_170, e_171, hf⟩ := rb_bd hf
          refine rb_hP C fl_X13_3_X13 e_171 dX13_word_50 ?_
          obtain ⟨v_172, e_173, hf⟩ := rb_bd hf
          refine rb_hP C fl_X13_19_X1 e_173 dX13_word_53 ?_
          refine rb_aload_n C dX13_word_56 rfl 0 rfl ?_
          obtain ⟨v_174, e_175, hf⟩ := rb_bd hf
          refine rb_hI C fl_X13_15_X13 e_175 dX13_word_57 ?_
          obtain ⟨u_176, e_177, hf⟩ := rb_bd hf
          obtain ⟨v_179, e_180, hf⟩ := rb_bd hf
          refine rb_callV (As := [.int v_174]) (rest := []) C mi_J1_charAt sv_X13_29 (hp_k_isC C.pf e_177 ck_J1) (ct_J1_charAt Ev h_45 (((((n_l6_1 + 1) + k_10) + k_22) + k_34) + k_46) v_172 v_174 _ e_180) rfl rfl (Nat.le_of_ble_eq_true rfl) ⟨Nat.le_of_ble_eq_true rfl, Nat.le_of_ble_eq_true rfl, hb.c0, hb.s0⟩ dX13_word_60 rb_xXi (rb_kXi fun hn_178 => (rb_w (kc := (((((kc_l6_1 + 1) + k_10) + k_22) + k_34) + k_46)) (ks := (((((ks_l6_1 + 4) + s_11) + s_23) + s_35) + s_47)) rfl rfl ?_))
          refine rb_bipush (v := 97) C dX13_word_63 rfl ?_
          refine rb_bipush (v := 122) C dX13_word_65 rfl ?_
          refine rb_callSN (As := [.int v_179, .int 97, .int 122]) (rest := []) C mi_X1_inRange ss_X13_70 (ct_X1_inRange Ev h_45 (((((n_l6_1 + 1) + k_10) + k_22) + k_34) + k_46) v_179 97 122 _ rfl) rfl rfl (Nat.le_of_ble_eq_true rfl) ⟨Nat.le_of_ble_eq_true rfl, Nat.le_of_ble_eq_true rfl, hb.c0, hb.s0⟩ dX13_word_67 rb_xXi (rb_kXi fun hn_181 => (rb_w (kc := (((((kc_l6_1 + 1) + k_10) + k_22) + k_34) + k_46)) (ks := (((((ks_l6_1 + 4) + s_11) + s_23) + s_35) + s_47)) rfl rfl ?_))
          refine rb_if_eq (tgt := 115) C dX13_word_70 (by decide) (fun c_182 => ?_) (fun c_182 => ?_)
          · have hf := (if_pos c_182).symm.trans hf
            refine rb_iconst (v := 0) C dX13_word_115 rfl ?_
            exact J_j116_83 0 h_45 (((((n_l6_1 + 1) + k_10) + k_22) + k_34) + k_46)  _ _ _ _ hf hb
          · have hf := (if_neg c_182).symm.trans hf
            refine rb_aload_n C dX13_word_73 rfl 1 rfl ?_
            obtain ⟨a_185, b_186, hf, ea_183, eb_184⟩ := ad_at hf
            refine rb_hnew C ck_J1 q1975 q132 q72 [.null, .int 0, .int 0, .int 0] rfl (Bd.c1 hb ea_183) (Bd.s1 hb eb_184) dX13_word_74 ?_
            have hb := Bd.ade hb ea_183 eb_184
            obtain ⟨h_187, e_h_187⟩ : ∃ z, z = (va_up h_45 (((((n_l6_1 + 1) + k_10) + k_22) + k_34) + k_46) (some (.inr (13, [.null, .int 0, .int 0, .int 0])))) := ⟨_, rfl⟩
            rw [← e_h_187]
            have hf := rb_let hf e_h_187
            refine rb_dup C dX13_word_77 rfl ?_
            obtain ⟨⟨r_189, h_190, k_191, s_192⟩, e_193, hf⟩ := rb_bd hf
            obtain ⟨a_196, b_197, hf, ea_194, eb_195⟩ := ad_at hf
            refine rb_callI (As := []) (rest := [.ref (((((n_l6_1 + 1) + k_10) + k_22) + k_34) + k_46), .ref (eS Ev RX13 54)]) C mi_J1_init si_X13_58 (ct_J1_init Ev h_187 ((((((n_l6_1 + 1) + k_10) + k_22) + k_34) + k_46) + 1) (((((n_l6_1 + 1) + k_10) + k_22) + k_34) + k_46) r_189 _ _ _ e_193) rfl rfl (Nat.le_of_ble_eq_true rfl) ⟨Nat.le_of_ble_eq_true rfl, Nat.le_of_ble_eq_true rfl, Bd.c1 hb ea_194, Bd.s1 hb eb_195⟩ dX13_word_78 rb_xX (rb_kX (rb_w (kc := (((((((kc_l6_1 + 1) + k_10) + k_22) + k_34) + k_46) + 1) + k_191)) (ks := (((((((ks_l6_1 + 4) + s_11) + s_23) + s_35) + s_47) + 4) + s_192)) rfl rfl ?_))
            have hb := Bd.ade hb ea_194 eb_195
            refine rb_aload_n C dX13_word_81 rfl 2 rfl ?_
            obtain ⟨u_198, e_199, hf⟩ := rb_bd hf
            obtain ⟨⟨r_201, h_202, k_203, s_204⟩, e_205, hf⟩ := rb_bd hf
            obtain ⟨a_208, b_209, hf, ea_206, eb_207⟩ := ad_at hf
            refine rb_callV (As := [.ref y2_l6_1]) (rest := [.ref (eS Ev RX13 54)]) C mi_J1_append_3 sv_X13_59 (hp_k_isC C.pf e_199 ck_J1) (ct_J1_append_3 Ev h_190 (((((((n_l6_1 + 1) + k_10) + k_22) + k_34) + k_46) + 1) + k_191) (((((n_l6_1 + 1) + k_10) + k_22) + k_34) + k_46) y2_l6_1 r_201 _ _ _ e_205) rfl rfl (Nat.le_of_ble_eq_true rfl) ⟨Nat.le_of_ble_eq_true rfl, Nat.le_of_ble_eq_true rfl, Bd.c1 hb ea_206, Bd.s1 hb eb_207⟩ dX13_word_82 rb_xX (rb_kX (rb_w (kc := ((((((((kc_l6_1 + 1) + k_10) + k_22) + k_34) + k_46) + 1) + k_191) + k_203)) (ks := ((((((((ks_l6_1 + 4) + s_11) + s_23) + s_35) + s_47) + 4) + s_192) + s_204)) rfl rfl ?_))
            have hb := Bd.ade hb ea_206 eb_207
            refine rb_aload_n C dX13_word_85 rfl 0 rfl ?_
            obtain ⟨v_210, e_211, hf⟩ := rb_bd hf
            refine rb_hP C fl_X13_3_X13 e_211 dX13_word_86 ?_
            obtain ⟨v_212, e_213, hf⟩ := rb_bd hf
            refine rb_hP C fl_X13_19_X1 e_213 dX13_word_89 ?_
            refine rb_aload_n C dX13_word_92 rfl 0 rfl ?_
            obtain ⟨v_214, e_215, hf⟩ := rb_bd hf
            refine rb_hI C fl_X13_15_X13 e_215 dX13_word_93 ?_
            obtain ⟨u_216, e_217, hf⟩ := rb_bd hf
            obtain ⟨v_219, e_220, hf⟩ := rb_bd hf
            refine rb_callV (As := [.int v_214]) (rest := [.ref r_201, .ref (eS Ev RX13 54)]) C mi_J1_charAt sv_X13_29 (hp_k_isC C.pf e_217 ck_J1) (ct_J1_charAt Ev h_202 ((((((((n_l6_1 + 1) + k_10) + k_22) + k_34) + k_46) + 1) + k_191) + k_203) v_212 v_214 _ e_220) rfl rfl (Nat.le_of_ble_eq_true rfl) ⟨Nat.le_of_ble_eq_true rfl, Nat.le_of_ble_eq_true rfl, hb.c0, hb.s0⟩ dX13_word_96 rb_xXi (rb_kXi fun hn_218 => (rb_w (kc := ((((((((kc_l6_1 + 1) + k_10) + k_22) + k_34) + k_46) + 1) + k_191) + k_203)) (ks := ((((((((ks_l6_1 + 4) + s_11) + s_23) + s_35) + s_47) + 4) + s_192) + s_204)) rfl rfl ?_))
            obtain ⟨u_221, e_222, hf⟩ := rb_bd hf
            obtain ⟨⟨r_224, h_225, k_226, s_227⟩, e_228, hf⟩ := rb_bd hf
            obtain ⟨a_231, b_232, hf, ea_229, eb_230⟩ := ad_at hf
            refine rb_callV (As := [.int v_219]) (rest := [.ref (eS Ev RX13 54)]) C mi_J1_append_7 sv_X13_74 (hp_k_isC C.pf e_222 ck_J1) (ct_J1_append_7 Ev h_202 ((((((((n_l6_1 + 1) + k_10) + k_22) + k_34) + k_46) + 1) + k_191) + k_203) r_201 v_219 r_224 _ _ _ e_228) rfl rfl (Nat.le_of_ble_eq_true rfl) ⟨Nat.le_of_ble_eq_true rfl, Nat.le_of_ble_eq_true rfl, Bd.c1 hb ea_229, Bd.s1 hb eb_230⟩ dX13_word_99 rb_xX (rb_kX (rb_w (kc := (((((((((kc_l6_1 + 1) + k_10) + k_22) + k_34) + k_46) + 1) + k_191) + k_203) + k_226)) (ks := (((((((((ks_l6_1 + 4) + s_11) + s_23) + s_35) + s_47) + 4) + s_192) + s_204) + s_227)) rfl rfl ?_))
            have hb := Bd.ade hb ea_229 eb_230
            obtain ⟨u_233, e_234, hf⟩ := rb_bd hf
            obtain ⟨⟨r_236, h_237, k_238, s_239⟩, e_240, hf⟩ := rb_bd hf
            obtain ⟨a_243, b_244, hf, ea_241, eb_242⟩ := ad_at hf
            refine rb_callV (As := []) (rest := [.ref (eS Ev RX13 54)]) C mi_J1_toString sv_X13_63 (hp_k_isC C.pf e_234 ck_J1) (ct_J1_toString Ev h_225 (((((((((n_l6_1 + 1) + k_10) + k_22) + k_34) + k_46) + 1) + k_191) + k_203) + k_226) r_224 r_236 _ _ _ e_240) rfl rfl (Nat.le_of_ble_eq_true rfl) ⟨Nat.le_of_ble_eq_true rfl, Nat.le_of_ble_eq_true rfl, Bd.c1 hb ea_241, Bd.s1 hb eb_242⟩ dX13_word_102 rb_xX (rb_kX (rb_w (kc := ((((((((((kc_l6_1 + 1) + k_10) + k_22) + k_34) + k_46) + 1) + k_191) + k_203) + k_226) + k_238)) (ks := ((((((((((ks_l6_1 + 4) + s_11) + s_23) + s_35) + s_47) + 4) + s_192) + s_204) + s_227) + s_239)) rfl rfl ?_))
            have hb := Bd.ade hb ea_241 eb_242
            obtain ⟨u_245, e_246, hf⟩ := rb_bd hf
            obtain ⟨v_248, e_249, hf⟩ := rb_bd hf
            refine rb_callV (As := [.ref r_236]) (rest := []) C mi_J2_indexOf_3 sv_X13_67 (hp_k_isC C.pf e_246 ck_J2) (ct_J2_indexOf_3 Ev h_237 ((((((((((n_l6_1 + 1) + k_10) + k_22) + k_34) + k_46) + 1) + k_191) + k_203) + k_226) + k_238) (eS Ev RX13 54) r_236 _ e_249) rfl rfl (Nat.le_of_ble_eq_true rfl) ⟨Nat.le_of_ble_eq_true rfl, Nat.le_of_ble_eq_true rfl, hb.c0, hb.s0⟩ dX13_word_105 rb_xXi (rb_kXi fun hn_247 => (rb_w (kc := ((((((((((kc_l6_1 + 1) + k_10) + k_22) + k_34) + k_46) + 1) + k_191) + k_203) + k_226) + k_238)) (ks := ((((((((((ks_l6_1 + 4) + s_11) + s_23) + s_35) + s_47) + 4) + s_192) + s_204) + s_227) + s_239)) rfl rfl ?_))
            refine rb_if_lt (tgt := 115) C dX13_word_108 (by decide) (fun c_250 => ?_) (fun c_250 => ?_)
            · have hf := (if_pos c_250).symm.trans hf
              refine rb_iconst (v := 0) C dX13_word_115 rfl ?_
              exact J_j116_83 0 h_237 ((((((((((n_l6_1 + 1) + k_10) + k_22) + k_34) + k_46) + 1) + k_191) + k_203) + k_226) + k_238)  _ _ _ _ hf hb
            · have hf := (if_neg c_250).symm.trans hf
              refine rb_iconst (v := 1) C dX13_word_111 rfl ?_
              refine rb_goto (tgt := 116) C dX13_word_112 (by decide) ?_
              exact J_j116_83 1 h_237 ((((((((((n_l6_1 + 1) + k_10) + k_22) + k_34) + k_46) + 1) + k_191) + k_203) + k_226) + k_238)  _ _ _ _ hf hb
  refine rb_sub [2, 1, 0] rfl ?_
  exact L_l6_1 4096 (eS Ev RX13 56) h n _ _ _ _ hf hb
def f_X13_isAt (Ev : rb_E) (h : AH) (o : Nat) (x1 : Nat) : Option Int32 := ((hp_i Ev h o 11 0).bind fun v_1 => ((hp_p Ev h o 11 1).bind fun v_3 => ((hp_p Ev h v_3 0 2).bind fun v_5 => ((hp_k Ev h v_5 13).bind fun u_7 => ((f_J1_length Ev h v_5).bind fun v_10 => (if v_10 ≤ v_1 then (some 0) else ((hp_p Ev h o 11 1).bind fun v_13 => ((hp_p Ev h v_13 0 2).bind fun v_15 => ((hp_i Ev h o 11 0).bind fun v_17 => ((hp_k Ev h v_15 13).bind fun u_19 => ((f_J1_charAt Ev h v_15 v_17).bind fun v_22 => ((hp_k Ev h x1 14).bind fun u_24 => ((f_J2_indexOf Ev h x1 v_22).bind fun v_27 => (if v_27 < 0 then (some 0) else (some 1)))))))))))))))
abbrev rm_X13_isAt : Room := { frames := 7, cells := 0, slots := 0, locals := 159 }
set_option maxHeartbeats 4000000 in
theorem ct_X13_isAt (Ev : rb_E) (h : AH) (n : Nat) (o : Nat) (x1 : Nat) (r : Int32) (hf : f_X13_isAt Ev h o x1 = some r) : Ct Ev yX13_isAt (ws_ yX13_isAt cX13_isAt 2 (some .boolean)) (rm_X13_isAt) [.ref o, .ref x1] h n (pXi .boolean r h n) := by
  rw [f_X13_isAt] at hf
  refine Ct.of rfl (Nat.le_of_ble_eq_true rfl) fun X C hnm => ?_
  have C : Cx Ev X RX13 cX13_isAt 2 (some .boolean) [] := C
  show Wa Ev X (rm_X13_isAt) 2 h n 0 0 (rb_MQ Ev X (rm_X13_isAt) (pXi .boolean r h n)) 0 [(0, .ref o), (1, .ref x1)] []
  refine rb_aload_n C dX13_isAt_0 rfl 0 rfl ?_
  obtain ⟨v_1, e_2, hf⟩ := rb_bd hf
  refine rb_hI C fl_X13_15_X13 e_2 dX13_isAt_1 ?_
  refine rb_aload_n C dX13_isAt_4 rfl 0 rfl ?_
  obtain ⟨v_3, e_4, hf⟩ := rb_bd hf
  refine rb_hP C fl_X13_3_X13 e_4 dX13_isAt_5 ?_
  obtain ⟨v_5, e_6, hf⟩ := rb_bd hf
  refine rb_hP C fl_X13_19_X1 e_6 dX13_isAt_8 ?_
  obtain ⟨u_7, e_8, hf⟩ := rb_bd hf
  obtain ⟨v_10, e_11, hf⟩ := rb_bd hf
  refine rb_callV (As := []) (rest := [.int v_1]) C mi_J1_length sv_X13_23 (hp_k_isC C.pf e_8 ck_J1) (ct_J1_length Ev h n v_5 _ e_11) rfl rfl (Nat.le_of_ble_eq_true rfl) ⟨Nat.le_of_ble_eq_true rfl, Nat.le_of_ble_eq_true rfl, (Nat.zero_le _), (Nat.zero_le _)⟩ dX13_isAt_11 rb_xXi (rb_kXi fun hn_9 => (rb_w (kc := 0) (ks := 0) rfl rfl ?_))
  refine rb_icmp_ge (tgt := 42) C dX13_isAt_14 (by decide) (fun c_12 => ?_) (fun c_12 => ?_)
  · have hf := (if_pos c_12).symm.trans hf
    refine rb_iconst (v := 0) C dX13_isAt_42 rfl ?_
    cases hf
    exact rb_iret C rfl rfl (Nat.zero_le _) (Nat.zero_le _) dX13_isAt_43 ⟨rfl, rfl, rfl, rfl⟩
  · have hf := (if_neg c_12).symm.trans hf
    refine rb_aload_n C dX13_isAt_17 rfl 1 rfl ?_
    refine rb_aload_n C dX13_isAt_18 rfl 0 rfl ?_
    obtain ⟨v_13, e_14, hf⟩ := rb_bd hf
    refine rb_hP C fl_X13_3_X13 e_14 dX13_isAt_19 ?_
    obtain ⟨v_15, e_16, hf⟩ := rb_bd hf
    refine rb_hP C fl_X13_19_X1 e_16 dX13_isAt_22 ?_
    refine rb_aload_n C dX13_isAt_25 rfl 0 rfl ?_
    obtain ⟨v_17, e_18, hf⟩ := rb_bd hf
    refine rb_hI C fl_X13_15_X13 e_18 dX13_isAt_26 ?_
    obtain ⟨u_19, e_20, hf⟩ := rb_bd hf
    obtain ⟨v_22, e_23, hf⟩ := rb_bd hf
    refine rb_callV (As := [.int v_17]) (rest := [.ref x1]) C mi_J1_charAt sv_X13_29 (hp_k_isC C.pf e_20 ck_J1) (ct_J1_charAt Ev h n v_15 v_17 _ e_23) rfl rfl (Nat.le_of_ble_eq_true rfl) ⟨Nat.le_of_ble_eq_true rfl, Nat.le_of_ble_eq_true rfl, (Nat.zero_le _), (Nat.zero_le _)⟩ dX13_isAt_29 rb_xXi (rb_kXi fun hn_21 => (rb_w (kc := 0) (ks := 0) rfl rfl ?_))
    obtain ⟨u_24, e_25, hf⟩ := rb_bd hf
    obtain ⟨v_27, e_28, hf⟩ := rb_bd hf
    refine rb_callV (As := [.int v_22]) (rest := []) C mi_J2_indexOf sv_X13_33 (hp_k_isC C.pf e_25 ck_J2) (ct_J2_indexOf Ev h n x1 v_22 _ e_28) rfl rfl (Nat.le_of_ble_eq_true rfl) ⟨Nat.le_of_ble_eq_true rfl, Nat.le_of_ble_eq_true rfl, (Nat.zero_le _), (Nat.zero_le _)⟩ dX13_isAt_32 rb_xXi (rb_kXi fun hn_26 => (rb_w (kc := 0) (ks := 0) rfl rfl ?_))
    refine rb_if_lt (tgt := 42) C dX13_isAt_35 (by decide) (fun c_29 => ?_) (fun c_29 => ?_)
    · have hf := (if_pos c_29).symm.trans hf
      refine rb_iconst (v := 0) C dX13_isAt_42 rfl ?_
      cases hf
      exact rb_iret C rfl rfl (Nat.zero_le _) (Nat.zero_le _) dX13_isAt_43 ⟨rfl, rfl, rfl, rfl⟩
    · have hf := (if_neg c_29).symm.trans hf
      refine rb_iconst (v := 1) C dX13_isAt_38 rfl ?_
      refine rb_goto (tgt := 43) C dX13_isAt_39 (by decide) ?_
      cases hf
      exact rb_iret C rfl rfl (Nat.zero_le _) (Nat.zero_le _) dX13_isAt_43 ⟨rfl, rfl, rfl, rfl⟩
def f_X13_take (Ev : rb_E) (h : AH) (n : Nat) (o : Nat) (x1 : Nat) : Option ((Int32 ⊕ (String × Nat)) × AH × Nat × Nat) := ((hp_k Ev h o 11).bind fun u_1 => ((f_X13_isAt Ev h o x1).bind fun v_4 => (if v_4 = 0 then (ad 1 7 (rb_lt (va_up h n (some (.inr (12, [.null, .null, .null, .null, .null, .int 0, .int 0])))) fun h_26 => ((hp_i Ev h_26 o 11 0).bind fun v_27 => ((f_X14_init Ev h_26 (n + 1) n v_27).bind fun (r_30, h_31, k_32, s_33) => (ad k_32 s_33 ((hp_k Ev h_31 n 12).bind fun u_40 => (some (.inr ("RainbowOperators$SyntaxFault", n), h_31, 0, 0)))))))) else ((hp_i Ev h o 11 0).bind fun v_7 => ((hp_put h o 11 0 (.int (v_7 + 1))).bind fun h_9 => ((hp_p Ev h_9 o 11 1).bind fun v_11 => ((hp_p Ev h_9 v_11 0 2).bind fun v_13 => ((hp_i Ev h_9 o 11 0).bind fun v_15 => ((hp_k Ev h_9 v_13 13).bind fun u_17 => ((f_J1_charAt Ev h_9 v_13 (v_15 - 1)).bind fun v_20 => (some (.inl v_20, h_9, 0, 0))))))))))))
abbrev rm_X13_take (k s : Nat) : Room := { frames := 8, cells := k, slots := s, locals := 180 }
set_option maxHeartbeats 4000000 in
theorem ct_X13_take (Ev : rb_E) (h : AH) (n : Nat) (o : Nat) (x1 : Nat) (r : Int32 ⊕ (String × Nat)) (h' : AH) (k s : Nat) (hf : f_X13_take Ev h n o x1 = some (r, h', k, s)) : Ct Ev yX13_take (ws_ yX13_take cX13_take 2 (some .char)) (rm_X13_take k s) [.ref o, .ref x1] h n (pX (rMap (fun v => some (.int v)) r) h' (n + k)) := by
  rw [f_X13_take] at hf
  refine Ct.of rfl (Nat.le_of_ble_eq_true rfl) fun X C hnm => ?_
  have C : Cx Ev X RX13 cX13_take 2 (some .char) [] := C
  show Wa Ev X (rm_X13_take k s) 2 h n 0 0 (rb_MQ Ev X (rm_X13_take k s) (pX (rMap (fun v => some (.int v)) r) h' (n + k))) 0 [(0, .ref o), (1, .ref x1)] []
  have hb : Bd (n + k) k s n 0 0 k s := ⟨rfl, Nat.le_of_eq (Nat.zero_add _), Nat.le_of_eq (Nat.zero_add _)⟩
  refine rb_aload_n C dX13_take_0 rfl 0 rfl ?_
  refine rb_aload_n C dX13_take_1 rfl 1 rfl ?_
  obtain ⟨u_1, e_2, hf⟩ := rb_bd hf
  obtain ⟨v_4, e_5, hf⟩ := rb_bd hf
  refine rb_callV (As := [.ref x1]) (rest := []) C mi_X13_isAt sv_X13_39 (hp_k_isC C.pf e_2 ck_X13) (ct_X13_isAt Ev h n o x1 _ e_5) rfl rfl (Nat.le_of_ble_eq_true rfl) ⟨Nat.le_of_ble_eq_true rfl, Nat.le_of_ble_eq_true rfl, hb.c0, hb.s0⟩ dX13_take_2 rb_xXi (rb_kXi fun hn_3 => (rb_w (kc := 0) (ks := 0) rfl rfl ?_))
  refine rb_if_ne (tgt := 20) C dX13_take_5 (by decide) (fun c_6 => ?_) (fun c_6 => ?_)
  · have hf := (if_neg c_6).symm.trans hf
    refine rb_aload_n C dX13_take_20 rfl 0 rfl ?_
    refine rb_dup C dX13_take_21 rfl ?_
    obtain ⟨v_7, e_8, hf⟩ := rb_bd hf
    refine rb_hI C fl_X13_15_X13 e_8 dX13_take_22 ?_
    refine rb_iconst (v := 1) C dX13_take_25 rfl ?_
    refine rb_iadd C dX13_take_26 ?_
    obtain ⟨h_9, e_10, hf⟩ := rb_bd hf
    refine rb_hput C fw_X13_15_X13 e_10 rfl rfl dX13_take_27 ?_
    refine rb_aload_n C dX13_take_30 rfl 0 rfl ?_
    obtain ⟨v_11, e_12, hf⟩ := rb_bd hf
    refine rb_hP C fl_X13_3_X13 e_12 dX13_take_31 ?_
    obtain ⟨v_13, e_14, hf⟩ := rb_bd hf
    refine rb_hP C fl_X13_19_X1 e_14 dX13_take_34 ?_
    refine rb_aload_n C dX13_take_37 rfl 0 rfl ?_
    obtain ⟨v_15, e_16, hf⟩ := rb_bd hf
    refine rb_hI C fl_X13_15_X13 e_16 dX13_take_38 ?_
    refine rb_iconst (v := 1) C dX13_take_41 rfl ?_
    refine rb_isub C dX13_take_42 ?_
    obtain ⟨u_17, e_18, hf⟩ := rb_bd hf
    obtain ⟨v_20, e_21, hf⟩ := rb_bd hf
    refine rb_callV (As := [.int (v_15 - 1)]) (rest := []) C mi_J1_charAt sv_X13_29 (hp_k_isC C.pf e_18 ck_J1) (ct_J1_charAt Ev h_9 n v_13 (v_15 - 1) _ e_21) rfl rfl (Nat.le_of_ble_eq_true rfl) ⟨Nat.le_of_ble_eq_true rfl, Nat.le_of_ble_eq_true rfl, hb.c0, hb.s0⟩ dX13_take_43 rb_xXi (rb_kXi fun hn_19 => (rb_w (kc := 0) (ks := 0) rfl rfl ?_))
    cases hf
    exact rb_iret C rfl hn_19 hb.e.2.1 hb.e.2.2 dX13_take_46 ⟨rfl, rfl, hb.e.1⟩
  · have hf := (if_pos c_6).symm.trans hf
    obtain ⟨a_24, b_25, hf, ea_22, eb_23⟩ := ad_at hf
    refine rb_hnew C ck_X14 q2005 q2006 q113 [.null, .null, .null, .null, .null, .int 0, .int 0] rfl (Bd.c1 hb ea_22) (Bd.s1 hb eb_23) dX13_take_8 ?_
    have hb := Bd.ade hb ea_22 eb_23
    obtain ⟨h_26, e_h_26⟩ : ∃ z, z = (va_up h n (some (.inr (12, [.null, .null, .null, .null, .null, .int 0, .int 0])))) := ⟨_, rfl⟩
    rw [← e_h_26]
    have hf := rb_let hf e_h_26
    refine rb_dup C dX13_take_11 rfl ?_
    refine rb_aload_n C dX13_take_12 rfl 0 rfl ?_
    obtain ⟨v_27, e_28, hf⟩ := rb_bd hf
    refine rb_hI C fl_X13_15_X13 e_28 dX13_take_13 ?_
    obtain ⟨⟨r_30, h_31, k_32, s_33⟩, e_34, hf⟩ := rb_bd hf
    obtain ⟨a_37, b_38, hf, ea_35, eb_36⟩ := ad_at hf
    refine rb_callI (As := [.int v_27]) (rest := [.ref n]) C mi_X14_init si_X13_45 (ct_X14_init Ev h_26 (n + 1) n v_27 r_30 _ _ _ e_34) rfl rfl (Nat.le_of_ble_eq_true rfl) ⟨Nat.le_of_ble_eq_true rfl, Nat.le_of_ble_eq_true rfl, Bd.c1 hb ea_35, Bd.s1 hb eb_36⟩ dX13_take_16 rb_xX (rb_kX (rb_w (kc := ((0 + 1) + k_32)) (ks := ((0 + 7) + s_33)) rfl rfl ?_))
    have hb := Bd.ade hb ea_35 eb_36
    obtain ⟨u_40, e_39, hf⟩ := rb_bd hf
    refine rb_hthrow (rest := []) C ck_X14 e_39 dX13_take_19 ?_
    cases hf
    exact rb_out C (fun _ z => absurd z List.not_mem_nil) hb.e.2.1 hb.e.2.2 ⟨rfl, rfl, hb.e.1⟩
def f_X13_digit (Ev : rb_E) (h : AH) (n : Nat) (o : Nat) : Option ((Int32 ⊕ (String × Nat)) × AH × Nat × Nat) := ((hp_k Ev h o 11).bind fun u_1 => ((f_X13_take Ev h n o (eS Ev RX13 48)).bind fun (r_4, h_5, k_6, s_7) => (ad k_6 s_7 (match r_4 with | .inl v_13 => (some (.inl (v_13 - 48), h_5, 0, 0)) | .inr (E_14, q_15) => (if E_14 = "RainbowOperators$SyntaxFault" then (some (.inr ("RainbowOperators$SyntaxFault", q_15), h_5, 0, 0)) else none)))))
abbrev rm_X13_digit (k s : Nat) : Room := { frames := 9, cells := k, slots := s, locals := 201 }
set_option maxHeartbeats 4000000 in
theorem ct_X13_digit (Ev : rb_E) (h : AH) (n : Nat) (o : Nat) (r : Int32 ⊕ (String × Nat)) (h' : AH) (k s : Nat) (hf : f_X13_digit Ev h n o = some (r, h', k, s)) : Ct Ev yX13_digit (ws_ yX13_digit cX13_digit 1 (some .int)) (rm_X13_digit k s) [.ref o] h n (pX (rMap (fun v => some (.int v)) r) h' (n + k)) := by
  rw [f_X13_digit] at hf
  refine Ct.of rfl (Nat.le_of_ble_eq_true rfl) fun X C hnm => ?_
  have C : Cx Ev X RX13 cX13_digit 1 (some .int) [] := C
  show Wa Ev X (rm_X13_digit k s) 1 h n 0 0 (rb_MQ Ev X (rm_X13_digit k s) (pX (rMap (fun v => some (.int v)) r) h' (n + k))) 0 [(0, .ref o)] []
  have hb : Bd (n + k) k s n 0 0 k s := ⟨rfl, Nat.le_of_eq (Nat.zero_add _), Nat.le_of_eq (Nat.zero_add _)⟩
  refine rb_aload_n C dX13_digit_0 rfl 0 rfl ?_
  refine rb_ldcS C q2051 dX13_digit_1 ?_
  obtain ⟨u_1, e_2, hf⟩ := rb_bd hf
  obtain ⟨⟨r_4, h_5, k_6, s_7⟩, e_8, hf⟩ := rb_bd hf
  obtain ⟨a_11, b_12, hf, ea_9, eb_10⟩ := ad_at hf
  rcases r_4 with v_13 | ⟨E_14, q_15⟩
  · dsimp only at hf
    refine rb_callV (As := [.ref (eS Ev RX13 48)]) (rest := []) C mi_X13_take sv_X13_50 (hp_k_isC C.pf e_2 ck_X13) (ct_X13_take Ev h n o (eS Ev RX13 48) (.inl v_13) _ _ _ e_8) rfl rfl (Nat.le_of_ble_eq_true rfl) ⟨Nat.le_of_ble_eq_true rfl, Nat.le_of_ble_eq_true rfl, Bd.c1 hb ea_9, Bd.s1 hb eb_10⟩ dX13_digit_3 rb_xX (rb_kX (r := some (.int v_13)) (rb_w (kc := (0 + k_6)) (ks := (0 + s_7)) rfl rfl ?_))
    have hb := Bd.ade hb ea_9 eb_10
    refine rb_bipush (v := 48) C dX13_digit_6 rfl ?_
    refine rb_isub C dX13_digit_8 ?_
    cases hf
    exact rb_iret C rfl rfl hb.e.2.1 hb.e.2.2 dX13_digit_9 ⟨rfl, rfl, hb.e.1⟩
  · dsimp only at hf
    by_cases c_16 : E_14 = "RainbowOperators$SyntaxFault"
    · have hf := (if_pos c_16).symm.trans hf
      subst c_16
      refine rb_callV (As := [.ref (eS Ev RX13 48)]) (rest := []) C mi_X13_take sv_X13_50 (hp_k_isC C.pf e_2 ck_X13) (ct_X13_take Ev h n o (eS Ev RX13 48) (.inr ("RainbowOperators$SyntaxFault", q_15)) _ _ _ e_8) rfl rfl (Nat.le_of_ble_eq_true rfl) ⟨Nat.le_of_ble_eq_true rfl, Nat.le_of_ble_eq_true rfl, Bd.c1 hb ea_9, Bd.s1 hb eb_10⟩ dX13_digit_3 (rb_xY (E := "RainbowOperators$SyntaxFault") (rb_wX (kc := (0 + k_6)) (ks := (0 + s_7)) rfl rfl ?_)) rb_kY
      have hb := Bd.ade hb ea_9 eb_10
      cases hf
      exact rb_out C (fun _ z => absurd z List.not_mem_nil) hb.e.2.1 hb.e.2.2 ⟨rfl, rfl, hb.e.1⟩
    have hf := (if_neg c_16).symm.trans hf
    cases hf
def f_X13_command_l206_138 (Ev : rb_E) (o : Nat) (v_13 : Nat) : Nat → Nat → AH → Nat → Option ((Nat ⊕ (String × Nat)) × AH × Nat × Nat)
  | 0, _, _, _ => none
  | k_l206_138 + 1, y5_l206_138, h_l206_138, n_l206_138 => ((hp_k Ev h_l206_138 o 11).bind fun u_139 => ((f_X13_isAt Ev h_l206_138 o (eS Ev RX13 110)).bind fun v_142 => (if v_142 = 0 then (ad 1 3 (rb_lt (va_up h_l206_138 n_l206_138 (some (.inr (3, [.null, .null, .int 0])))) fun h_149 => ((f_X5_init Ev h_149 (n_l206_138 + 1) n_l206_138 v_13 y5_l206_138 0).bind fun (r_151, h_152, k_153, s_154) => (ad k_153 s_154 (some (.inl n_l206_138, h_152, 0, 0)))))) else (ad 1 4 (rb_lt (va_up h_l206_138 n_l206_138 (some (.inr (13, [.null, .int 0, .int 0, .int 0])))) fun h_164 => ((f_J1_init Ev h_164 (n_l206_138 + 1) n_l206_138).bind fun (r_166, h_167, k_168, s_169) => (ad k_168 s_169 ((hp_k Ev h_167 n_l206_138 13).bind fun u_175 => ((f_J1_append_3 Ev h_167 ((n_l206_138 + 1) + k_168) n_l206_138 y5_l206_138).bind fun (r_178, h_179, k_180, s_181) => (ad k_180 s_181 ((hp_k Ev h_179 o 11).bind fun u_187 => ((f_X13_take Ev h_179 (((n_l206_138 + 1) + k_168) + k_180) o (eS Ev RX13 110)).bind fun (r_190, h_191, k_192, s_193) => (ad k_192 s_193 (match r_190 with | .inl v_199 => ((hp_k Ev h_191 r_178 13).bind fun u_202 => ((f_J1_append_7 Ev h_191 ((((n_l206_138 + 1) + k_168) + k_180) + k_192) r_178 v_199).bind fun (r_205, h_206, k_207, s_208) => (ad k_207 s_208 ((hp_k Ev h_206 r_205 13).bind fun u_214 => ((f_J1_toString Ev h_206 (((((n_l206_138 + 1) + k_168) + k_180) + k_192) + k_207) r_205).bind fun (r_217, h_218, k_219, s_220) => (ad k_219 s_220 ((f_X13_command_l206_138 Ev o v_13 k_l206_138) r_217 h_218 ((((((n_l206_138 + 1) + k_168) + k_180) + k_192) + k_207) + k_219)))))))) | .inr (E_200, q_201) => (if E_200 = "RainbowOperators$SyntaxFault" then (some (.inr ("RainbowOperators$SyntaxFault", q_201), h_191, 0, 0)) else none)))))))))))))))
def f_X13_command_j149_70 (Ev : rb_E) (o : Nat) (n : Nat) (k_6 : Nat) (v_13 : Nat) (k_48 : Nat) (h_62 : AH) (k_63 : Nat) (y4_j149_70 : Int32) : Option ((Nat ⊕ (String × Nat)) × AH × Nat × Nat) := (if y4_j149_70 = 0 then (ad 1 4 (rb_lt (va_up h_62 (((n + k_6) + k_48) + k_63) (some (.inr (13, [.null, .int 0, .int 0, .int 0])))) fun h_76 => ((f_J1_init Ev h_76 ((((n + k_6) + k_48) + k_63) + 1) (((n + k_6) + k_48) + k_63)).bind fun (r_78, h_79, k_80, s_81) => (ad k_80 s_81 ((hp_k Ev h_79 (((n + k_6) + k_48) + k_63) 13).bind fun u_87 => ((f_J1_append_3 Ev h_79 (((((n + k_6) + k_48) + k_63) + 1) + k_80) (((n + k_6) + k_48) + k_63) (eS Ev RX13 94)).bind fun (r_90, h_91, k_92, s_93) => (ad k_92 s_93 ((hp_k Ev h_91 o 11).bind fun u_99 => ((f_X13_take Ev h_91 ((((((n + k_6) + k_48) + k_63) + 1) + k_80) + k_92) o (eS Ev RX13 110)).bind fun (r_102, h_103, k_104, s_105) => (ad k_104 s_105 (match r_102 with | .inl v_111 => ((hp_k Ev h_103 r_90 13).bind fun u_114 => ((f_J1_append_7 Ev h_103 (((((((n + k_6) + k_48) + k_63) + 1) + k_80) + k_92) + k_104) r_90 v_111).bind fun (r_117, h_118, k_119, s_120) => (ad k_119 s_120 ((hp_k Ev h_118 r_117 13).bind fun u_126 => ((f_J1_toString Ev h_118 ((((((((n + k_6) + k_48) + k_63) + 1) + k_80) + k_92) + k_104) + k_119) r_117).bind fun (r_129, h_130, k_131, s_132) => (ad k_131 s_132 (f_X13_command_l206_138 Ev o v_13 4096 r_129 h_130 (((((((((n + k_6) + k_48) + k_63) + 1) + k_80) + k_92) + k_104) + k_119) + k_131)))))))) | .inr (E_112, q_113) => (if E_112 = "RainbowOperators$SyntaxFault" then (some (.inr ("RainbowOperators$SyntaxFault", q_113), h_103, 0, 0)) else none)))))))))))) else (if y4_j149_70 = 1 then ((hp_k Ev h_62 o 11).bind fun u_229 => ((f_X13_take Ev h_62 (((n + k_6) + k_48) + k_63) o (eS Ev RX13 112)).bind fun (r_232, h_233, k_234, s_235) => (ad k_234 s_235 (match r_232 with | .inl v_241 => (ad 1 3 (rb_lt (va_up h_233 ((((n + k_6) + k_48) + k_63) + k_234) (some (.inr (3, [.null, .null, .int 0])))) fun h_248 => (ad 1 4 (rb_lt (va_up h_248 (((((n + k_6) + k_48) + k_63) + k_234) + 1) (some (.inr (13, [.null, .int 0, .int 0, .int 0])))) fun h_253 => ((f_J1_init Ev h_253 ((((((n + k_6) + k_48) + k_63) + k_234) + 1) + 1) (((((n + k_6) + k_48) + k_63) + k_234) + 1)).bind fun (r_255, h_256, k_257, s_258) => (ad k_257 s_258 ((hp_k Ev h_256 (((((n + k_6) + k_48) + k_63) + k_234) + 1) 13).bind fun u_264 => ((f_J1_append_3 Ev h_256 (((((((n + k_6) + k_48) + k_63) + k_234) + 1) + 1) + k_257) (((((n + k_6) + k_48) + k_63) + k_234) + 1) (eS Ev RX13 94)).bind fun (r_267, h_268, k_269, s_270) => (ad k_269 s_270 ((hp_k Ev h_268 r_267 13).bind fun u_276 => ((f_J1_append_7 Ev h_268 ((((((((n + k_6) + k_48) + k_63) + k_234) + 1) + 1) + k_257) + k_269) r_267 v_241).bind fun (r_279, h_280, k_281, s_282) => (ad k_281 s_282 ((hp_k Ev h_280 r_279 13).bind fun u_288 => ((f_J1_toString Ev h_280 (((((((((n + k_6) + k_48) + k_63) + k_234) + 1) + 1) + k_257) + k_269) + k_281) r_279).bind fun (r_291, h_292, k_293, s_294) => (ad k_293 s_294 ((hp_k Ev h_292 o 11).bind fun u_300 => ((f_X13_digit Ev h_292 ((((((((((n + k_6) + k_48) + k_63) + k_234) + 1) + 1) + k_257) + k_269) + k_281) + k_293) o).bind fun (r_303, h_304, k_305, s_306) => (ad k_305 s_306 (match r_303 with | .inl v_312 => ((f_X5_init Ev h_304 (((((((((((n + k_6) + k_48) + k_63) + k_234) + 1) + 1) + k_257) + k_269) + k_281) + k_293) + k_305) ((((n + k_6) + k_48) + k_63) + k_234) v_13 r_291 v_312).bind fun (r_316, h_317, k_318, s_319) => (ad k_318 s_319 (some (.inl ((((n + k_6) + k_48) + k_63) + k_234), h_317, 0, 0)))) | .inr (E_313, q_314) => (if E_313 = "RainbowOperators$SyntaxFault" then (some (.inr ("RainbowOperators$SyntaxFault", q_314), h_304, 0, 0)) else none)))))))))))))))))))) | .inr (E_242, q_243) => (if E_242 = "RainbowOperators$SyntaxFault" then (some (.inr ("RainbowOperators$SyntaxFault", q_243), h_233, 0, 0)) else none))))) else (if y4_j149_70 = 2 then ((hp_k Ev h_62 o 11).bind fun u_328 => ((f_X13_take Ev h_62 (((n + k_6) + k_48) + k_63) o (eS Ev RX13 117)).bind fun (r_331, h_332, k_333, s_334) => (ad k_333 s_334 (match r_331 with | .inl v_340 => (ad 1 3 (rb_lt (va_up h_332 ((((n + k_6) + k_48) + k_63) + k_333) (some (.inr (3, [.null, .null, .int 0])))) fun h_347 => (ad 1 4 (rb_lt (va_up h_347 (((((n + k_6) + k_48) + k_63) + k_333) + 1) (some (.inr (13, [.null, .int 0, .int 0, .int 0])))) fun h_352 => ((f_J1_init Ev h_352 ((((((n + k_6) + k_48) + k_63) + k_333) + 1) + 1) (((((n + k_6) + k_48) + k_63) + k_333) + 1)).bind fun (r_354, h_355, k_356, s_357) => (ad k_356 s_357 ((hp_k Ev h_355 (((((n + k_6) + k_48) + k_63) + k_333) + 1) 13).bind fun u_363 => ((f_J1_append_3 Ev h_355 (((((((n + k_6) + k_48) + k_63) + k_333) + 1) + 1) + k_356) (((((n + k_6) + k_48) + k_63) + k_333) + 1) (eS Ev RX13 94)).bind fun (r_366, h_367, k_368, s_369) => (ad k_368 s_369 ((hp_k Ev h_367 r_366 13).bind fun u_375 => ((f_J1_append_7 Ev h_367 ((((((((n + k_6) + k_48) + k_63) + k_333) + 1) + 1) + k_356) + k_368) r_366 v_340).bind fun (r_378, h_379, k_380, s_381) => (ad k_380 s_381 ((hp_k Ev h_379 o 11).bind fun u_387 => ((f_X13_take Ev h_379 (((((((((n + k_6) + k_48) + k_63) + k_333) + 1) + 1) + k_356) + k_368) + k_380) o (eS Ev RX13 119)).bind fun (r_390, h_391, k_392, s_393) => (ad k_392 s_393 (match r_390 with | .inl v_399 => ((hp_k Ev h_391 r_378 13).bind fun u_402 => ((f_J1_append_7 Ev h_391 ((((((((((n + k_6) + k_48) + k_63) + k_333) + 1) + 1) + k_356) + k_368) + k_380) + k_392) r_378 v_399).bind fun (r_405, h_406, k_407, s_408) => (ad k_407 s_408 ((hp_k Ev h_406 r_405 13).bind fun u_414 => ((f_J1_toString Ev h_406 (((((((((((n + k_6) + k_48) + k_63) + k_333) + 1) + 1) + k_356) + k_368) + k_380) + k_392) + k_407) r_405).bind fun (r_417, h_418, k_419, s_420) => (ad k_419 s_420 ((f_X5_init Ev h_418 ((((((((((((n + k_6) + k_48) + k_63) + k_333) + 1) + 1) + k_356) + k_368) + k_380) + k_392) + k_407) + k_419) ((((n + k_6) + k_48) + k_63) + k_333) v_13 r_417 0).bind fun (r_427, h_428, k_429, s_430) => (ad k_429 s_430 (some (.inl ((((n + k_6) + k_48) + k_63) + k_333), h_428, 0, 0)))))))))) | .inr (E_400, q_401) => (if E_400 = "RainbowOperators$SyntaxFault" then (some (.inr ("RainbowOperators$SyntaxFault", q_401), h_391, 0, 0)) else none))))))))))))))))) | .inr (E_341, q_342) => (if E_341 = "RainbowOperators$SyntaxFault" then (some (.inr ("RainbowOperators$SyntaxFault", q_342), h_332, 0, 0)) else none))))) else (if y4_j149_70 = 3 then (ad 1 3 (rb_lt (va_up h_62 (((n + k_6) + k_48) + k_63) (some (.inr (3, [.null, .null, .int 0])))) fun h_443 => ((hp_k Ev h_443 o 11).bind fun u_444 => ((f_X13_digit Ev h_443 ((((n + k_6) + k_48) + k_63) + 1) o).bind fun (r_447, h_448, k_449, s_450) => (ad k_449 s_450 (match r_447 with | .inl v_456 => ((f_X5_init Ev h_448 (((((n + k_6) + k_48) + k_63) + 1) + k_449) (((n + k_6) + k_48) + k_63) v_13 (eS Ev RX13 94) v_456).bind fun (r_460, h_461, k_462, s_463) => (ad k_462 s_463 (some (.inl (((n + k_6) + k_48) + k_63), h_461, 0, 0)))) | .inr (E_457, q_458) => (if E_457 = "RainbowOperators$SyntaxFault" then (some (.inr ("RainbowOperators$SyntaxFault", q_458), h_448, 0, 0)) else none))))))) else (ad 1 3 (rb_lt (va_up h_62 (((n + k_6) + k_48) + k_63) (some (.inr (3, [.null, .null, .int 0])))) fun h_474 => (ad 1 4 (rb_lt (va_up h_474 ((((n + k_6) + k_48) + k_63) + 1) (some (.inr (13, [.null, .int 0, .int 0, .int 0])))) fun h_479 => ((f_J1_init Ev h_479 (((((n + k_6) + k_48) + k_63) + 1) + 1) ((((n + k_6) + k_48) + k_63) + 1)).bind fun (r_481, h_482, k_483, s_484) => (ad k_483 s_484 ((hp_k Ev h_482 ((((n + k_6) + k_48) + k_63) + 1) 13).bind fun u_490 => ((f_J1_append_3 Ev h_482 ((((((n + k_6) + k_48) + k_63) + 1) + 1) + k_483) ((((n + k_6) + k_48) + k_63) + 1) (eS Ev RX13 94)).bind fun (r_493, h_494, k_495, s_496) => (ad k_495 s_496 ((hp_k Ev h_494 o 11).bind fun u_502 => ((f_X13_take Ev h_494 (((((((n + k_6) + k_48) + k_63) + 1) + 1) + k_483) + k_495) o (eS Ev RX13 121)).bind fun (r_505, h_506, k_507, s_508) => (ad k_507 s_508 (match r_505 with | .inl v_514 => ((hp_k Ev h_506 r_493 13).bind fun u_517 => ((f_J1_append_7 Ev h_506 ((((((((n + k_6) + k_48) + k_63) + 1) + 1) + k_483) + k_495) + k_507) r_493 v_514).bind fun (r_520, h_521, k_522, s_523) => (ad k_522 s_523 ((hp_k Ev h_521 r_520 13).bind fun u_529 => ((f_J1_toString Ev h_521 (((((((((n + k_6) + k_48) + k_63) + 1) + 1) + k_483) + k_495) + k_507) + k_522) r_520).bind fun (r_532, h_533, k_534, s_535) => (ad k_534 s_535 ((f_X5_init Ev h_533 ((((((((((n + k_6) + k_48) + k_63) + 1) + 1) + k_483) + k_495) + k_507) + k_522) + k_534) (((n + k_6) + k_48) + k_63) v_13 r_532 0).bind fun (r_542, h_543, k_544, s_545) => (ad k_544 s_545 (some (.inl (((n + k_6) + k_48) + k_63), h_543, 0, 0)))))))))) | .inr (E_515, q_516) => (if E_515 = "RainbowOperators$SyntaxFault" then (some (.inr ("RainbowOperators$SyntaxFault", q_516), h_506, 0, 0)) else none))))))))))))))))))
def f_X13_command (Ev : rb_E) (h : AH) (n : Nat) (o : Nat) : Option ((Nat ⊕ (String × Nat)) × AH × Nat × Nat) := ((hp_k Ev h o 11).bind fun u_1 => ((f_X13_word Ev h n o).bind fun (r_4, h_5, k_6, s_7) => (ad k_6 s_7 (match r_4 with | .inl v_13 => ((hp_k Ev h_5 v_13 14).bind fun u_16 => ((f_J2_equals Ev h_5 v_13 (eS Ev RX13 84)).bind fun v_19 => (if v_19 = 0 then ((hp_k Ev h_5 v_13 14).bind fun u_37 => ((f_J2_equals Ev h_5 v_13 (eS Ev RX13 90)).bind fun v_40 => (if v_40 = 0 then ((hp_k Ev h_5 o 11).bind fun u_43 => ((f_X13_take Ev h_5 (n + k_6) o (eS Ev RX13 56)).bind fun (r_46, h_47, k_48, s_49) => (ad k_48 s_49 (match r_46 with | .inl v_55 => ((hp_k Ev h_47 v_13 14).bind fun u_58 => ((f_J2_hashCode Ev h_47 ((n + k_6) + k_48) v_13).bind fun (r_61, h_62, k_63, s_64) => (ad k_63 s_64 (if r_61 = (-1354842676) then ((hp_k Ev h_62 v_13 14).bind fun u_553 => ((f_J2_equals Ev h_62 v_13 (eS Ev RX13 104)).bind fun v_556 => (if v_556 = 0 then (f_X13_command_j149_70 Ev o n k_6 v_13 k_48 h_62 k_63 (-1)) else (f_X13_command_j149_70 Ev o n k_6 v_13 k_48 h_62 k_63 1)))) else (if r_61 = 111375 then ((hp_k Ev h_62 v_13 14).bind fun u_560 => ((f_J2_equals Ev h_62 v_13 (eS Ev RX13 102)).bind fun v_563 => (if v_563 = 0 then (f_X13_command_j149_70 Ev o n k_6 v_13 k_48 h_62 k_63 (-1)) else (f_X13_command_j149_70 Ev o n k_6 v_13 k_48 h_62 k_63 0)))) else (if r_61 = 3347397 then ((hp_k Ev h_62 v_13 14).bind fun u_567 => ((f_J2_equals Ev h_62 v_13 (eS Ev RX13 106)).bind fun v_570 => (if v_570 = 0 then (f_X13_command_j149_70 Ev o n k_6 v_13 k_48 h_62 k_63 (-1)) else (f_X13_command_j149_70 Ev o n k_6 v_13 k_48 h_62 k_63 2)))) else (if r_61 = 109770985 then ((hp_k Ev h_62 v_13 14).bind fun u_574 => ((f_J2_equals Ev h_62 v_13 (eS Ev RX13 108)).bind fun v_577 => (if v_577 = 0 then (f_X13_command_j149_70 Ev o n k_6 v_13 k_48 h_62 k_63 (-1)) else (f_X13_command_j149_70 Ev o n k_6 v_13 k_48 h_62 k_63 3)))) else (f_X13_command_j149_70 Ev o n k_6 v_13 k_48 h_62 k_63 (-1))))))))) | .inr (E_56, q_57) => (if E_56 = "RainbowOperators$SyntaxFault" then (some (.inr ("RainbowOperators$SyntaxFault", q_57), h_47, 0, 0)) else none))))) else (ad 1 3 (rb_lt (va_up h_5 (n + k_6) (some (.inr (3, [.null, .null, .int 0])))) fun h_585 => ((f_X5_init Ev h_585 ((n + k_6) + 1) (n + k_6) v_13 (eS Ev RX13 94) 0).bind fun (r_587, h_588, k_589, s_590) => (ad k_589 s_590 (some (.inl (n + k_6), h_588, 0, 0))))))))) else (ad 1 3 (rb_lt (va_up h_5 (n + k_6) (some (.inr (3, [.null, .null, .int 0])))) fun h_26 => ((f_X5_init Ev h_26 ((n + k_6) + 1) (n + k_6) v_13 (eS Ev RX13 94) 0).bind fun (r_28, h_29, k_30, s_31) => (ad k_30 s_31 (some (.inl (n + k_6), h_29, 0, 0))))))))) | .inr (E_14, q_15) => (if E_14 = "RainbowOperators$SyntaxFault" then (some (.inr ("RainbowOperators$SyntaxFault", q_15), h_5, 0, 0)) else none)))))
abbrev rm_X13_command (k s : Nat) : Room := { frames := 11, cells := k, slots := s, locals := 246 }
set_option maxHeartbeats 4000000 in
theorem ct_X13_command (Ev : rb_E) (h : AH) (n : Nat) (o : Nat) (r : Nat ⊕ (String × Nat)) (h' : AH) (k s : Nat) (hf : f_X13_command Ev h n o = some (r, h', k, s)) : Ct Ev yX13_command (ws_ yX13_command cX13_command 6 (some (.object "RainbowOperators$Change"))) (rm_X13_command k s) [.ref o] h n (pX (rMap (fun v => some (.ref v)) r) h' (n + k)) := by
  rw [f_X13_command] at hf
  refine Ct.of rfl (Nat.le_of_ble_eq_true rfl) fun X C hnm => ?_
  have C : Cx Ev X RX13 cX13_command 6 (some (.object "RainbowOperators$Change")) [] := C
  show Wa Ev X (rm_X13_command k s) 6 h n 0 0 (rb_MQ Ev X (rm_X13_command k s) (pX (rMap (fun v => some (.ref v)) r) h' (n + k))) 0 [(0, .ref o)] []
  have hb : Bd (n + k) k s n 0 0 k s := ⟨rfl, Nat.le_of_eq (Nat.zero_add _), Nat.le_of_eq (Nat.zero_add _)⟩
  refine rb_aload_n C dX13_command_0 rfl 0 rfl ?_
  obtain ⟨u_1, e_2, hf⟩ := rb_bd hf
  obtain ⟨⟨r_4, h_5, k_6, s_7⟩, e_8, hf⟩ := rb_bd hf
  obtain ⟨a_11, b_12, hf, ea_9, eb_10⟩ := ad_at hf
  rcases r_4 with v_13 | ⟨E_14, q_15⟩
  · dsimp only at hf
    refine rb_callV (As := []) (rest := []) C mi_X13_word sv_X13_81 (hp_k_isC C.pf e_2 ck_X13) (ct_X13_word Ev h n o (.inl v_13) _ _ _ e_8) rfl rfl (Nat.le_of_ble_eq_true rfl) ⟨Nat.le_of_ble_eq_true rfl, Nat.le_of_ble_eq_true rfl, Bd.c1 hb ea_9, Bd.s1 hb eb_10⟩ dX13_command_1 rb_xX (rb_kX (r := some (.ref v_13)) (rb_w (kc := (0 + k_6)) (ks := (0 + s_7)) rfl rfl ?_))
    have hb := Bd.ade hb ea_9 eb_10
    refine rb_astore_n (lv' := [(1, .ref v_13), (0, .ref o)]) C dX13_command_4 rfl (by decide) rfl ?_
    refine rb_aload_n C dX13_command_5 rfl 0 rfl ?_
    refine rb_ldcS C q2025 dX13_command_6 ?_
    obtain ⟨u_16, e_17, hf⟩ := rb_bd hf
    obtain ⟨v_19, e_20, hf⟩ := rb_bd hf
    refine rb_callV (As := [.ref (eS Ev RX13 84)]) (rest := []) C mi_J2_equals sv_X13_86 (hp_k_isC C.pf e_17 ck_J2) (ct_J2_equals Ev h_5 (n + k_6) v_13 (eS Ev RX13 84) _ e_20) rfl rfl (Nat.le_of_ble_eq_true rfl) ⟨Nat.le_of_ble_eq_true rfl, Nat.le_of_ble_eq_true rfl, hb.c0, hb.s0⟩ dX13_command_8 rb_xXi (rb_kXi fun hn_18 => (rb_w (kc := (0 + k_6)) (ks := (0 + s_7)) rfl rfl ?_))
    refine rb_if_ne (tgt := 23) C dX13_command_11 (by decide) (fun c_21 => ?_) (fun c_21 => ?_)
    · have hf := (if_neg c_21).symm.trans hf
      obtain ⟨a_24, b_25, hf, ea_22, eb_23⟩ := ad_at hf
      refine rb_hnew C ck_X5 q2028 q526 q92 [.null, .null, .int 0] rfl (Bd.c1 hb ea_22) (Bd.s1 hb eb_23) dX13_command_23 ?_
      have hb := Bd.ade hb ea_22 eb_23
      obtain ⟨h_26, e_h_26⟩ : ∃ z, z = (va_up h_5 (n + k_6) (some (.inr (3, [.null, .null, .int 0])))) := ⟨_, rfl⟩
      rw [← e_h_26]
      have hf := rb_let hf e_h_26
      refine rb_dup C dX13_command_26 rfl ?_
      refine rb_aload_n C dX13_command_27 rfl 0 rfl ?_
      refine rb_ldcS C q2029 dX13_command_28 ?_
      refine rb_iconst (v := 0) C dX13_command_30 rfl ?_
      obtain ⟨⟨r_28, h_29, k_30, s_31⟩, e_32, hf⟩ := rb_bd hf
      obtain ⟨a_35, b_36, hf, ea_33, eb_34⟩ := ad_at hf
      refine rb_callI (As := [.ref v_13, .ref (eS Ev RX13 94), .int 0]) (rest := [.ref (n + k_6)]) C mi_X5_init si_X13_96 (ct_X5_init Ev h_26 ((n + k_6) + 1) (n + k_6) v_13 (eS Ev RX13 94) 0 r_28 _ _ _ e_32) rfl rfl (Nat.le_of_ble_eq_true rfl) ⟨Nat.le_of_ble_eq_true rfl, Nat.le_of_ble_eq_true rfl, Bd.c1 hb ea_33, Bd.s1 hb eb_34⟩ dX13_command_31 rb_xX (rb_kX (rb_w (kc := (((0 + k_6) + 1) + k_30)) (ks := (((0 + s_7) + 3) + s_31)) rfl rfl ?_))
      have hb := Bd.ade hb ea_33 eb_34
      cases hf
      exact rb_aret C rfl (Or.inl ⟨_, rfl⟩) (Or.inr ⟨_, rfl⟩) hb.e.2.1 hb.e.2.2 dX13_command_34 ⟨rfl, rfl, hb.e.1⟩
    · have hf := (if_pos c_21).symm.trans hf
      refine rb_aload_n C dX13_command_14 rfl 0 rfl ?_
      refine rb_ldcS C q2027 dX13_command_15 ?_
      obtain ⟨u_37, e_38, hf⟩ := rb_bd hf
      obtain ⟨v_40, e_41, hf⟩ := rb_bd hf
      refine rb_callV (As := [.ref (eS Ev RX13 90)]) (rest := []) C mi_J2_equals sv_X13_86 (hp_k_isC C.pf e_38 ck_J2) (ct_J2_equals Ev h_5 (n + k_6) v_13 (eS Ev RX13 90) _ e_41) rfl rfl (Nat.le_of_ble_eq_true rfl) ⟨Nat.le_of_ble_eq_true rfl, Nat.le_of_ble_eq_true rfl, hb.c0, hb.s0⟩ dX13_command_17 rb_xXi (rb_kXi fun hn_39 => (rb_w (kc := (0 + k_6)) (ks := (0 + s_7)) rfl rfl ?_))
      refine rb_if_eq (tgt := 35) C dX13_command_20 (by decide) (fun c_42 => ?_) (fun c_42 => ?_)
      · have hf := (if_pos c_42).symm.trans hf
        refine rb_aload_n C dX13_command_35 rfl 1 rfl ?_
        refine rb_ldcS C q1974 dX13_command_36 ?_
        obtain ⟨u_43, e_44, hf⟩ := rb_bd hf
        obtain ⟨⟨r_46, h_47, k_48, s_49⟩, e_50, hf⟩ := rb_bd hf
        obtain ⟨a_53, b_54, hf, ea_51, eb_52⟩ := ad_at hf
        rcases r_46 with v_55 | ⟨E_56, q_57⟩
        · dsimp only at hf
          refine rb_callV (As := [.ref (eS Ev RX13 56)]) (rest := []) C mi_X13_take sv_X13_50 (hp_k_isC C.pf e_44 ck_X13) (ct_X13_take Ev h_5 (n + k_6) o (eS Ev RX13 56) (.inl v_55) _ _ _ e_50) rfl rfl (Nat.le_of_ble_eq_true rfl) ⟨Nat.le_of_ble_eq_true rfl, Nat.le_of_ble_eq_true rfl, Bd.c1 hb ea_51, Bd.s1 hb eb_52⟩ dX13_command_38 rb_xX (rb_kX (r := some (.int v_55)) (rb_w (kc := ((0 + k_6) + k_48)) (ks := ((0 + s_7) + s_49)) rfl rfl ?_))
          have hb := Bd.ade hb ea_51 eb_52
          refine rb_istore_n (lv' := [(2, .int v_55), (1, .ref v_13), (0, .ref o)]) C dX13_command_41 rfl (by decide) rfl ?_
          refine rb_aload_n C dX13_command_42 rfl 1 rfl ?_
          refine rb_astore_n (lv' := [(3, .ref v_13), (2, .int v_55), (1, .ref v_13), (0, .ref o)]) C dX13_command_43 rfl (by decide) rfl ?_
          refine rb_iconst (v := (-1)) C dX13_command_44 rfl ?_
          refine rb_istore (lv' := [(4, .int (-1)), (3, .ref v_13), (2, .int v_55), (1, .ref v_13), (0, .ref o)]) C dX13_command_45 (by decide) rfl ?_
          refine rb_aload_n C dX13_command_47 rfl 1 rfl ?_
          obtain ⟨u_58, e_59, hf⟩ := rb_bd hf
          obtain ⟨⟨r_61, h_62, k_63, s_64⟩, e_65, hf⟩ := rb_bd hf
          obtain ⟨a_68, b_69, hf, ea_66, eb_67⟩ := ad_at hf
          refine rb_callV (As := []) (rest := []) C mi_J2_hashCode sv_X13_99 (hp_k_isC C.pf e_59 ck_J2) (ct_J2_hashCode Ev h_47 ((n + k_6) + k_48) v_13 r_61 _ _ _ e_65) rfl rfl (Nat.le_of_ble_eq_true rfl) ⟨Nat.le_of_ble_eq_true rfl, Nat.le_of_ble_eq_true rfl, Bd.c1 hb ea_66, Bd.s1 hb eb_67⟩ dX13_command_48 rb_xXi (rb_kXi fun hn_60 => (rb_w (kc := (((0 + k_6) + k_48) + k_63)) (ks := (((0 + s_7) + s_49) + s_64)) rfl rfl ?_))
          have hb := Bd.ade hb ea_66 eb_67
          have J_j149_70 : ∀ (y4_j149_70 : Int32) (kc_j149_70 ks_j149_70 a_ b_ : Nat), f_X13_command_j149_70 Ev o n k_6 v_13 k_48 h_62 k_63 y4_j149_70 = some (r, h', a_, b_) → Bd (n + k) k s (((n + k_6) + k_48) + k_63) kc_j149_70 ks_j149_70 a_ b_ → Wa Ev X (rm_X13_command k s) 6 h_62 (((n + k_6) + k_48) + k_63) kc_j149_70 ks_j149_70 (rb_MQ Ev X (rm_X13_command k s) (pX (rMap (fun v => some (.ref v)) r) h' (n + k))) 149 [(0, .ref o), (1, .ref v_13), (2, .int v_55), (3, .ref v_13), (4, .int y4_j149_70)] [] := by
            intro y4_j149_70 kc_j149_70 ks_j149_70 a_ b_ hf hb
            rw [f_X13_command_j149_70] at hf
            refine rb_iload C dX13_command_149 4 rfl ?_
            by_cases c_71 : y4_j149_70 = 0
            · have hf := (if_pos c_71).symm.trans hf
              refine rb_top (.int 0) (by rw [c_71]) ?_
              refine rb_tableIn (tgt := 180) C dX13_command_151 (by decide) (by decide) (off := 29) (by decide) (by decide) ?_
              obtain ⟨a_74, b_75, hf, ea_72, eb_73⟩ := ad_at hf
              refine rb_hnew C ck_J1 q1975 q132 q72 [.null, .int 0, .int 0, .int 0] rfl (Bd.c1 hb ea_72) (Bd.s1 hb eb_73) dX13_command_180 ?_
              have hb := Bd.ade hb ea_72 eb_73
              obtain ⟨h_76, e_h_76⟩ : ∃ z, z = (va_up h_62 (((n + k_6) + k_48) + k_63) (some (.inr (13, [.null, .int 0, .int 0, .int 0])))) := ⟨_, rfl⟩
              rw [← e_h_76]
              have hf := rb_let hf e_h_76
              refine rb_dup C dX13_command_183 rfl ?_
              obtain ⟨⟨r_78, h_79, k_80, s_81⟩, e_82, hf⟩ := rb_bd hf
              obtain ⟨a_85, b_86, hf, ea_83, eb_84⟩ := ad_at hf
              refine rb_callI (As := []) (rest := [.ref (((n + k_6) + k_48) + k_63)]) C mi_J1_init si_X13_58 (ct_J1_init Ev h_76 ((((n + k_6) + k_48) + k_63) + 1) (((n + k_6) + k_48) + k_63) r_78 _ _ _ e_82) rfl rfl (Nat.le_of_ble_eq_true rfl) ⟨Nat.le_of_ble_eq_true rfl, Nat.le_of_ble_eq_true rfl, Bd.c1 hb ea_83, Bd.s1 hb eb_84⟩ dX13_command_184 rb_xX (rb_kX (rb_w (kc := ((kc_j149_70 + 1) + k_80)) (ks := ((ks_j149_70 + 4) + s_81)) rfl rfl ?_))
              have hb := Bd.ade hb ea_83 eb_84
              refine rb_ldcS C q2029 dX13_command_187 ?_
              obtain ⟨u_87, e_88, hf⟩ := rb_bd hf
              obtain ⟨⟨r_90, h_91, k_92, s_93⟩, e_94, hf⟩ := rb_bd hf
              obtain ⟨a_97, b_98, hf, ea_95, eb_96⟩ := ad_at hf
              refine rb_callV (As := [.ref (eS Ev RX13 94)]) (rest := []) C mi_J1_append_3 sv_X13_59 (hp_k_isC C.pf e_88 ck_J1) (ct_J1_append_3 Ev h_79 (((((n + k_6) + k_48) + k_63) + 1) + k_80) (((n + k_6) + k_48) + k_63) (eS Ev RX13 94) r_90 _ _ _ e_94) rfl rfl (Nat.le_of_ble_eq_true rfl) ⟨Nat.le_of_ble_eq_true rfl, Nat.le_of_ble_eq_true rfl, Bd.c1 hb ea_95, Bd.s1 hb eb_96⟩ dX13_command_189 rb_xX (rb_kX (rb_w (kc := (((kc_j149_70 + 1) + k_80) + k_92)) (ks := (((ks_j149_70 + 4) + s_81) + s_93)) rfl rfl ?_))
              have hb := Bd.ade hb ea_95 eb_96
              refine rb_aload_n C dX13_command_192 rfl 0 rfl ?_
              refine rb_ldcS C q2045 dX13_command_193 ?_
              obtain ⟨u_99, e_100, hf⟩ := rb_bd hf
              obtain ⟨⟨r_102, h_103, k_104, s_105⟩, e_106, hf⟩ := rb_bd hf
              obtain ⟨a_109, b_110, hf, ea_107, eb_108⟩ := ad_at hf
              rcases r_102 with v_111 | ⟨E_112, q_113⟩
              · dsimp only at hf
                refine rb_callV (As := [.ref (eS Ev RX13 110)]) (rest := [.ref r_90]) C mi_X13_take sv_X13_50 (hp_k_isC C.pf e_100 ck_X13) (ct_X13_take Ev h_91 ((((((n + k_6) + k_48) + k_63) + 1) + k_80) + k_92) o (eS Ev RX13 110) (.inl v_111) _ _ _ e_106) rfl rfl (Nat.le_of_ble_eq_true rfl) ⟨Nat.le_of_ble_eq_true rfl, Nat.le_of_ble_eq_true rfl, Bd.c1 hb ea_107, Bd.s1 hb eb_108⟩ dX13_command_195 rb_xX (rb_kX (r := some (.int v_111)) (rb_w (kc := ((((kc_j149_70 + 1) + k_80) + k_92) + k_104)) (ks := ((((ks_j149_70 + 4) + s_81) + s_93) + s_105)) rfl rfl ?_))
                have hb := Bd.ade hb ea_107 eb_108
                obtain ⟨u_114, e_115, hf⟩ := rb_bd hf
                obtain ⟨⟨r_117, h_118, k_119, s_120⟩, e_121, hf⟩ := rb_bd hf
                obtain ⟨a_124, b_125, hf, ea_122, eb_123⟩ := ad_at hf
                refine rb_callV (As := [.int v_111]) (rest := []) C mi_J1_append_7 sv_X13_74 (hp_k_isC C.pf e_115 ck_J1) (ct_J1_append_7 Ev h_103 (((((((n + k_6) + k_48) + k_63) + 1) + k_80) + k_92) + k_104) r_90 v_111 r_117 _ _ _ e_121) rfl rfl (Nat.le_of_ble_eq_true rfl) ⟨Nat.le_of_ble_eq_true rfl, Nat.le_of_ble_eq_true rfl, Bd.c1 hb ea_122, Bd.s1 hb eb_123⟩ dX13_command_198 rb_xX (rb_kX (rb_w (kc := (((((kc_j149_70 + 1) + k_80) + k_92) + k_104) + k_119)) (ks := (((((ks_j149_70 + 4) + s_81) + s_93) + s_105) + s_120)) rfl rfl ?_))
                have hb := Bd.ade hb ea_122 eb_123
                obtain ⟨u_126, e_127, hf⟩ := rb_bd hf
                obtain ⟨⟨r_129, h_130, k_131, s_132⟩, e_133, hf⟩ := rb_bd hf
                obtain ⟨a_136, b_137, hf, ea_134, eb_135⟩ := ad_at hf
                refine rb_callV (As := []) (rest := []) C mi_J1_toString sv_X13_63 (hp_k_isC C.pf e_127 ck_J1) (ct_J1_toString Ev h_118 ((((((((n + k_6) + k_48) + k_63) + 1) + k_80) + k_92) + k_104) + k_119) r_117 r_129 _ _ _ e_133) rfl rfl (Nat.le_of_ble_eq_true rfl) ⟨Nat.le_of_ble_eq_true rfl, Nat.le_of_ble_eq_true rfl, Bd.c1 hb ea_134, Bd.s1 hb eb_135⟩ dX13_command_201 rb_xX (rb_kX (rb_w (kc := ((((((kc_j149_70 + 1) + k_80) + k_92) + k_104) + k_119) + k_131)) (ks := ((((((ks_j149_70 + 4) + s_81) + s_93) + s_105) + s_120) + s_132)) rfl rfl ?_))
                have hb := Bd.ade hb ea_134 eb_135
                refine rb_astore (lv' := [(5, .ref r_129), (0, .ref o), (1, .ref v_13), (2, .int v_55), (3, .ref v_13), (4, .int y4_j149_70)]) C dX13_command_204 (by decide) rfl ?_
                have L_l206_138 : ∀ (k_l206_138 : Nat) (y5_l206_138 : Nat) (h_l206_138 : AH) (n_l206_138 kc_l206_138 ks_l206_138 a_ b_ : Nat), f_X13_command_l206_138 Ev o v_13 k_l206_138 y5_l206_138 h_l206_138 n_l206_138 = some (r, h', a_, b_) → Bd (n + k) k s n_l206_138 kc_l206_138 ks_l206_138 a_ b_ → Wa Ev X (rm_X13_command k s) 6 h_l206_138 n_l206_138 kc_l206_138 ks_l206_138 (rb_MQ Ev X (rm_X13_command k s) (pX (rMap (fun v => some (.ref v)) r) h' (n + k))) 206 [(0, .ref o), (1, .ref v_13), (2, .int v_55), (3, .ref v_13), (4, .int y4_j149_70), (5, .ref y5_l206_138)] [] := by
                  intro k_l206_138
                  induction k_l206_138 with
                  | zero => intro y5_l206_138 h_l206_138 n_l206_138 kc_l206_138 ks_l206_138 a_ b_ hf hb; cases hf
                  | succ k_l206_138 ih_l206_138 =>
                    intro y5_l206_138 h_l206_138 n_l206_138 kc_l206_138 ks_l206_138 a_ b_ hf hb
                    rw [f_X13_command_l206_138] at hf
                    refine rb_aload_n C dX13_command_206 rfl 0 rfl ?_
                    refine rb_ldcS C q2045 dX13_command_207 ?_
                    obtain ⟨u_139, e_140, hf⟩ := rb_bd hf
                    obtain ⟨v_142, e_143, hf⟩ := rb_bd hf
                    refine rb_callV (As := [.ref (eS Ev RX13 110)]) (rest := []) C mi_X13_isAt sv_X13_39 (hp_k_isC C.pf e_140 ck_X13) (ct_X13_isAt Ev h_l206_138 n_l206_138 o (eS Ev RX13 110) _ e_143) rfl rfl (Nat.le_of_ble_eq_true rfl) ⟨Nat.le_of_ble_eq_true rfl, Nat.le_of_ble_eq_true rfl, hb.c0, hb.s0⟩ dX13_command_209 rb_xXi (rb_kXi fun hn_141 => (rb_w (kc := kc_l206_138) (ks := ks_l206_138) rfl rfl ?_))
                    refine rb_if_eq (tgt := 244) C dX13_command_212 (by decide) (fun c_144 => ?_) (fun c_144 => ?_)
                    · have hf := (if_pos c_144).symm.trans hf
                      obtain ⟨a_147, b_148, hf, ea_145, eb_146⟩ := ad_at hf
                      refine rb_hnew C ck_X5 q2028 q526 q92 [.null, .null, .int 0] rfl (Bd.c1 hb ea_145) (Bd.s1 hb eb_146) dX13_command_244 ?_
                      have hb := Bd.ade hb ea_145 eb_146
                      obtain ⟨h_149, e_h_149⟩ : ∃ z, z = (va_up h_l206_138 n_l206_138 (some (.inr (3, [.null, .null, .int 0])))) := ⟨_, rfl⟩
                      rw [← e_h_149]
                      have hf := rb_let hf e_h_149
                      refine rb_dup C dX13_command_247 rfl ?_
                      refine rb_aload_n C dX13_command_248 rfl 1 rfl ?_
                      refine rb_aload C dX13_command_249 5 rfl ?_
                      refine rb_iconst (v := 0) C dX13_command_251 rfl ?_
                      obtain ⟨⟨r_151, h_152, k_153, s_154⟩, e_155, hf⟩ := rb_bd hf
                      obtain ⟨a_158, b_159, hf, ea_156, eb_157⟩ := ad_at hf
                      refine rb_callI (As := [.ref v_13, .ref y5_l206_138, .int 0]) (rest := [.ref n_l206_138]) C mi_X5_init si_X13_96 (ct_X5_init Ev h_149 (n_l206_138 + 1) n_l206_138 v_13 y5_l206_138 0 r_151 _ _ _ e_155) rfl rfl (Nat.le_of_ble_eq_true rfl) ⟨Nat.le_of_ble_eq_true rfl, Nat.le_of_ble_eq_true rfl, Bd.c1 hb ea_156, Bd.s1 hb eb_157⟩ dX13_command_252 rb_xX (rb_kX (rb_w (kc := ((kc_l206_138 + 1) + k_153)) (ks := ((ks_l206_138 + 3) + s_154)) rfl rfl ?_))
                      have hb := Bd.ade hb ea_156 eb_157
                      cases hf
                      exact rb_aret C rfl (Or.inl ⟨_, rfl⟩) (Or.inr ⟨_, rfl⟩) hb.e.2.1 hb.e.2.2 dX13_command_255 ⟨rfl, rfl, hb.e.1⟩
                    · have hf := (if_neg c_144).symm.trans hf
                      obtain ⟨a_162, b_163, hf, ea_160, eb_161⟩ := ad_at hf
                      refine rb_hnew C ck_J1 q1975 q132 q72 [.null, .int 0, .int 0, .int 0] rfl (Bd.c1 hb ea_160) (Bd.s1 hb eb_161) dX13_command_215 ?_
                      have hb := Bd.ade hb ea_160 eb_161
                      obtain ⟨h_164, e_h_164⟩ : ∃ z, z = (va_up h_l206_138 n_l206_138 (some (.inr (13, [.null, .int 0, .int 0, .int 0])))) := ⟨_, rfl⟩
                      rw [← e_h_164]
                      have hf := rb_let hf e_h_164
                      refine rb_dup C dX13_command_218 rfl ?_
                      obtain ⟨⟨r_166, h_167, k_168, s_169⟩, e_170, hf⟩ := rb_bd hf
                      obtain ⟨a_173, b_174, hf, ea_171, eb_172⟩ := ad_at hf
                      refine rb_callI (As := []) (rest := [.ref n_l206_138]) C mi_J1_init si_X13_58 (ct_J1_init Ev h_164 (n_l206_138 + 1) n_l206_138 r_166 _ _ _ e_170) rfl rfl (Nat.le_of_ble_eq_true rfl) ⟨Nat.le_of_ble_eq_true rfl, Nat.le_of_ble_eq_true rfl, Bd.c1 hb ea_171, Bd.s1 hb eb_172⟩ dX13_command_219 rb_xX (rb_kX (rb_w (kc := ((kc_l206_138 + 1) + k_168)) (ks := ((ks_l206_138 + 4) + s_169)) rfl rfl ?_))
                      have hb := Bd.ade hb ea_171 eb_172
                      refine rb_aload C dX13_command_222 5 rfl ?_
                      obtain ⟨u_175, e_176, hf⟩ := rb_bd hf
                      obtain ⟨⟨r_178, h_179, k_180, s_181⟩, e_182, hf⟩ := rb_bd hf
                      obtain ⟨a_185, b_186, hf, ea_183, eb_184⟩ := ad_at hf
                      refine rb_callV (As := [.ref y5_l206_138]) (rest := []) C mi_J1_append_3 sv_X13_59 (hp_k_isC C.pf e_176 ck_J1) (ct_J1_append_3 Ev h_167 ((n_l206_138 + 1) + k_168) n_l206_138 y5_l206_138 r_178 _ _ _ e_182) rfl rfl (Nat.le_of_ble_eq_true rfl) ⟨Nat.le_of_ble_eq_true rfl, Nat.le_of_ble_eq_true rfl, Bd.c1 hb ea_183, Bd.s1 hb eb_184⟩ dX13_command_224 rb_xX (rb_kX (rb_w (kc := (((kc_l206_138 + 1) + k_168) + k_180)) (ks := (((ks_l206_138 + 4) + s_169) + s_181)) rfl rfl ?_))
                      have hb := Bd.ade hb ea_183 eb_184
                      refine rb_aload_n C dX13_command_227 rfl 0 rfl ?_
                      refine rb_ldcS C q2045 dX13_command_228 ?_
                      obtain ⟨u_187, e_188, hf⟩ := rb_bd hf
                      obtain ⟨⟨r_190, h_191, k_192, s_193⟩, e_194, hf⟩ := rb_bd hf
                      obtain ⟨a_197, b_198, hf, ea_195, eb_196⟩ := ad_at hf
                      rcases r_190 with v_199 | ⟨E_200, q_201⟩
                      · dsimp only at hf
                        refine rb_callV (As := [.ref (eS Ev RX13 110)]) (rest := [.ref r_178]) C mi_X13_take sv_X13_50 (hp_k_isC C.pf e_188 ck_X13) (ct_X13_take Ev h_179 (((n_l206_138 + 1) + k_168) + k_180) o (eS Ev RX13 110) (.inl v_199) _ _ _ e_194) rfl rfl (Nat.le_of_ble_eq_true rfl) ⟨Nat.le_of_ble_eq_true rfl, Nat.le_of_ble_eq_true rfl, Bd.c1 hb ea_195, Bd.s1 hb eb_196⟩ dX13_command_230 rb_xX (rb_kX (r := some (.int v_199)) (rb_w (kc := ((((kc_l206_138 + 1) + k_168) + k_180) + k_192)) (ks := ((((ks_l206_138 + 4) + s_169) + s_181) + s_193)) rfl rfl ?_))
                        have hb := Bd.ade hb ea_195 eb_196
                        obtain ⟨u_202, e_203, hf⟩ := rb_bd hf
                        obtain ⟨⟨r_205, h_206, k_207, s_208⟩, e_209, hf⟩ := rb_bd hf
                        obtain ⟨a_212, b_213, hf, ea_210, eb_211⟩ := ad_at hf
                        refine rb_callV (As := [.int v_199]) (rest := []) C mi_J1_append_7 sv_X13_74 (hp_k_isC C.pf e_203 ck_J1) (ct_J1_append_7 Ev h_191 ((((n_l206_138 + 1) + k_168) + k_180) + k_192) r_178 v_199 r_205 _ _ _ e_209) rfl rfl (Nat.le_of_ble_eq_true rfl) ⟨Nat.le_of_ble_eq_true rfl, Nat.le_of_ble_eq_true rfl, Bd.c1 hb ea_210, Bd.s1 hb eb_211⟩ dX13_command_233 rb_xX (rb_kX (rb_w (kc := (((((kc_l206_138 + 1) + k_168) + k_180) + k_192) + k_207)) (ks := (((((ks_l206_138 + 4) + s_169) + s_181) + s_193) + s_208)) rfl rfl ?_))
                        have hb := Bd.ade hb ea_210 eb_211
                        obtain ⟨u_214, e_215, hf⟩ := rb_bd hf
                        obtain ⟨⟨r_217, h_218, k_219, s_220⟩, e_221, hf⟩ := rb_bd hf
                        obtain ⟨a_224, b_225, hf, ea_222, eb_223⟩ := ad_at hf
                        refine rb_callV (As := []) (rest := []) C mi_J1_toString sv_X13_63 (hp_k_isC C.pf e_215 ck_J1) (ct_J1_toString Ev h_206 (((((n_l206_138 + 1) + k_168) + k_180) + k_192) + k_207) r_205 r_217 _ _ _ e_221) rfl rfl (Nat.le_of_ble_eq_true rfl) ⟨Nat.le_of_ble_eq_true rfl, Nat.le_of_ble_eq_true rfl, Bd.c1 hb ea_222, Bd.s1 hb eb_223⟩ dX13_command_236 rb_xX (rb_kX (rb_w (kc := ((((((kc_l206_138 + 1) + k_168) + k_180) + k_192) + k_207) + k_219)) (ks := ((((((ks_l206_138 + 4) + s_169) + s_181) + s_193) + s_208) + s_220)) rfl rfl ?_))
                        have hb := Bd.ade hb ea_222 eb_223
                        refine rb_astore (lv' := [(5, .ref r_217), (0, .ref o), (1, .ref v_13), (2, .int v_55), (3, .ref v_13), (4, .int y4_j149_70)]) C dX13_command_239 (by decide) rfl ?_
                        refine rb_goto (tgt := 206) C dX13_command_241 (by decide) ?_
                        refine rb_sub [1, 2, 3, 4, 5, 0] rfl ?_
                        exact ih_l206_138 r_217 h_218 ((((((n_l206_138 + 1) + k_168) + k_180) + k_192) + k_207) + k_219) _ _ _ _ hf hb
                      · dsimp only at hf
                        by_cases c_226 : E_200 = "RainbowOperators$SyntaxFault"
                        · have hf := (if_pos c_226).symm.trans hf
                          subst c_226
                          refine rb_callV (As := [.ref (eS Ev RX13 110)]) (rest := [.ref r_178]) C mi_X13_take sv_X13_50 (hp_k_isC C.pf e_188 ck_X13) (ct_X13_take Ev h_179 (((n_l206_138 + 1) + k_168) + k_180) o (eS Ev RX13 110) (.inr ("RainbowOperators$SyntaxFault", q_201)) _ _ _ e_194) rfl rfl (Nat.le_of_ble_eq_true rfl) ⟨Nat.le_of_ble_eq_true rfl, Nat.le_of_ble_eq_true rfl, Bd.c1 hb ea_195, Bd.s1 hb eb_196⟩ dX13_command_230 (rb_xY (E := "RainbowOperators$SyntaxFault") (rb_wX (kc := ((((kc_l206_138 + 1) + k_168) + k_180) + k_192)) (ks := ((((ks_l206_138 + 4) + s_169) + s_181) + s_193)) rfl rfl ?_)) rb_kY
                          have hb := Bd.ade hb ea_195 eb_196
                          cases hf
                          exact rb_out C (fun _ z => absurd z List.not_mem_nil) hb.e.2.1 hb.e.2.2 ⟨rfl, rfl, hb.e.1⟩
                        have hf := (if_neg c_226).symm.trans hf
                        cases hf
                refine rb_sub [1, 2, 3, 4, 5, 0] rfl ?_
                exact L_l206_138 4096 r_129 h_130 (((((((((n + k_6) + k_48) + k_63) + 1) + k_80) + k_92) + k_104) + k_119) + k_131) _ _ _ _ hf hb
              · dsimp only at hf
                by_cases c_227 : E_112 = "RainbowOperators$SyntaxFault"
                · have hf := (if_pos c_227).symm.trans hf
                  subst c_227
                  refine rb_callV (As := [.ref (eS Ev RX13 110)]) (rest := [.ref r_90]) C mi_X13_take sv_X13_50 (hp_k_isC C.pf e_100 ck_X13) (ct_X13_take Ev h_91 ((((((n + k_6) + k_48) + k_63) + 1) + k_80) + k_92) o (eS Ev RX13 110) (.inr ("RainbowOperators$SyntaxFault", q_113)) _ _ _ e_106) rfl rfl (Nat.le_of_ble_eq_true rfl) ⟨Nat.le_of_ble_eq_true rfl, Nat.le_of_ble_eq_true rfl, Bd.c1 hb ea_107, Bd.s1 hb eb_108⟩ dX13_command_195 (rb_xY (E := "RainbowOperators$SyntaxFault") (rb_wX (kc := ((((kc_j149_70 + 1) + k_80) + k_92) + k_104)) (ks := ((((ks_j149_70 + 4) + s_81) + s_93) + s_105)) rfl rfl ?_)) rb_kY
                  have hb := Bd.ade hb ea_107 eb_108
                  cases hf
                  exact rb_out C (fun _ z => absurd z List.not_mem_nil) hb.e.2.1 hb.e.2.2 ⟨rfl, rfl, hb.e.1⟩
                have hf := (if_neg c_227).symm.trans hf
                cases hf
            have hf := (if_neg c_71).symm.trans hf
            by_cases c_228 : y4_j149_70 = 1
            · have hf := (if_pos c_228).symm.trans hf
              refine rb_top (.int 1) (by rw [c_228]) ?_
              refine rb_tableIn (tgt := 256) C dX13_command_151 (by decide) (by decide) (off := 105) (by decide) (by decide) ?_
              refine rb_aload_n C dX13_command_256 rfl 0 rfl ?_
              refine rb_ldcS C q2046 dX13_command_257 ?_
              obtain ⟨u_229, e_230, hf⟩ := rb_bd hf
              obtain ⟨⟨r_232, h_233, k_234, s_235⟩, e_236, hf⟩ := rb_bd hf
              obtain ⟨a_239, b_240, hf, ea_237, eb_238⟩ := ad_at hf
              rcases r_232 with v_241 | ⟨E_242, q_243⟩
              · dsimp only at hf
                refine rb_callV (As := [.ref (eS Ev RX13 112)]) (rest := []) C mi_X13_take sv_X13_50 (hp_k_isC C.pf e_230 ck_X13) (ct_X13_take Ev h_62 (((n + k_6) + k_48) + k_63) o (eS Ev RX13 112) (.inl v_241) _ _ _ e_236) rfl rfl (Nat.le_of_ble_eq_true rfl) ⟨Nat.le_of_ble_eq_true rfl, Nat.le_of_ble_eq_true rfl, Bd.c1 hb ea_237, Bd.s1 hb eb_238⟩ dX13_command_259 rb_xX (rb_kX (r := some (.int v_241)) (rb_w (kc := (kc_j149_70 + k_234)) (ks := (ks_j149_70 + s_235)) rfl rfl ?_))
                have hb := Bd.ade hb ea_237 eb_238
                refine rb_istore (lv' := [(5, .int v_241), (0, .ref o), (1, .ref v_13), (2, .int v_55), (3, .ref v_13), (4, .int y4_j149_70)]) C dX13_command_262 (by decide) rfl ?_
                obtain ⟨a_246, b_247, hf, ea_244, eb_245⟩ := ad_at hf
                refine rb_hnew C ck_X5 q2028 q526 q92 [.null, .null, .int 0] rfl (Bd.c1 hb ea_244) (Bd.s1 hb eb_245) dX13_command_264 ?_
                have hb := Bd.ade hb ea_244 eb_245
                obtain ⟨h_248, e_h_248⟩ : ∃ z, z = (va_up h_233 ((((n + k_6) + k_48) + k_63) + k_234) (some (.inr (3, [.null, .null, .int 0])))) := ⟨_, rfl⟩
                rw [← e_h_248]
                have hf := rb_let hf e_h_248
                refine rb_dup C dX13_command_267 rfl ?_
                refine rb_aload_n C dX13_command_268 rfl 2 rfl ?_
                obtain ⟨a_251, b_252, hf, ea_249, eb_250⟩ := ad_at hf
                refine rb_hnew C ck_J1 q1975 q132 q72 [.null, .int 0, .int 0, .int 0] rfl (Bd.c1 hb ea_249) (Bd.s1 hb eb_250) dX13_command_269 ?_
                have hb := Bd.ade hb ea_249 eb_250
                obtain ⟨h_253, e_h_253⟩ : ∃ z, z = (va_up h_248 (((((n + k_6) + k_48) + k_63) + k_234) + 1) (some (.inr (13, [.null, .int 0, .int 0, .int 0])))) := ⟨_, rfl⟩
                rw [← e_h_253]
                have hf := rb_let hf e_h_253
                refine rb_dup C dX13_command_272 rfl ?_
                obtain ⟨⟨r_255, h_256, k_257, s_258⟩, e_259, hf⟩ := rb_bd hf
                obtain ⟨a_262, b_263, hf, ea_260, eb_261⟩ := ad_at hf
                refine rb_callI (As := []) (rest := [.ref (((((n + k_6) + k_48) + k_63) + k_234) + 1), .ref v_13, .ref ((((n + k_6) + k_48) + k_63) + k_234), .ref ((((n + k_6) + k_48) + k_63) + k_234)]) C mi_J1_init si_X13_58 (ct_J1_init Ev h_253 ((((((n + k_6) + k_48) + k_63) + k_234) + 1) + 1) (((((n + k_6) + k_48) + k_63) + k_234) + 1) r_255 _ _ _ e_259) rfl rfl (Nat.le_of_ble_eq_true rfl) ⟨Nat.le_of_ble_eq_true rfl, Nat.le_of_ble_eq_true rfl, Bd.c1 hb ea_260, Bd.s1 hb eb_261⟩ dX13_command_273 rb_xX (rb_kX (rb_w (kc := ((((kc_j149_70 + k_234) + 1) + 1) + k_257)) (ks := ((((ks_j149_70 + s_235) + 3) + 4) + s_258)) rfl rfl ?_))
                have hb := Bd.ade hb ea_260 eb_261
                refine rb_ldcS C q2029 dX13_command_276 ?_
                obtain ⟨u_264, e_265, hf⟩ := rb_bd hf
                obtain ⟨⟨r_267, h_268, k_269, s_270⟩, e_271, hf⟩ := rb_bd hf
                obtain ⟨a_274, b_275, hf, ea_272, eb_273⟩ := ad_at hf
                refine rb_callV (As := [.ref (eS Ev RX13 94)]) (rest := [.ref v_13, .ref ((((n + k_6) + k_48) + k_63) + k_234), .ref ((((n + k_6) + k_48) + k_63) + k_234)]) C mi_J1_append_3 sv_X13_59 (hp_k_isC C.pf e_265 ck_J1) (ct_J1_append_3 Ev h_256 (((((((n + k_6) + k_48) + k_63) + k_234) + 1) + 1) + k_257) (((((n + k_6) + k_48) + k_63) + k_234) + 1) (eS Ev RX13 94) r_267 _ _ _ e_271) rfl rfl (Nat.le_of_ble_eq_true rfl) ⟨Nat.le_of_ble_eq_true rfl, Nat.le_of_ble_eq_true rfl, Bd.c1 hb ea_272, Bd.s1 hb eb_273⟩ dX13_command_278 rb_xX (rb_kX (rb_w (kc := (((((kc_j149_70 + k_234) + 1) + 1) + k_257) + k_269)) (ks := (((((ks_j149_70 + s_235) + 3) + 4) + s_258) + s_270)) rfl rfl ?_))
                have hb := Bd.ade hb ea_272 eb_273
                refine rb_iload C dX13_command_281 0 rfl ?_
                obtain ⟨u_276, e_277, hf⟩ := rb_bd hf
                obtain ⟨⟨r_279, h_280, k_281, s_282⟩, e_283, hf⟩ := rb_bd hf
                obtain ⟨a_286, b_287, hf, ea_284, eb_285⟩ := ad_at hf
                refine rb_callV (As := [.int v_241]) (rest := [.ref v_13, .ref ((((n + k_6) + k_48) + k_63) + k_234), .ref ((((n + k_6) + k_48) + k_63) + k_234)]) C mi_J1_append_7 sv_X13_74 (hp_k_isC C.pf e_277 ck_J1) (ct_J1_append_7 Ev h_268 ((((((((n + k_6) + k_48) + k_63) + k_234) + 1) + 1) + k_257) + k_269) r_267 v_241 r_279 _ _ _ e_283) rfl rfl (Nat.le_of_ble_eq_true rfl) ⟨Nat.le_of_ble_eq_true rfl, Nat.le_of_ble_eq_true rfl, Bd.c1 hb ea_284, Bd.s1 hb eb_285⟩ dX13_command_283 rb_xX (rb_kX (rb_w (kc := ((((((kc_j149_70 + k_234) + 1) + 1) + k_257) + k_269) + k_281)) (ks := ((((((ks_j149_70 + s_235) + 3) + 4) + s_258) + s_270) + s_282)) rfl rfl ?_))
                have hb := Bd.ade hb ea_284 eb_285
                obtain ⟨u_288, e_289, hf⟩ := rb_bd hf
                obtain ⟨⟨r_291, h_292, k_293, s_294⟩, e_295, hf⟩ := rb_bd hf
                obtain ⟨a_298, b_299, hf, ea_296, eb_297⟩ := ad_at hf
                refine rb_callV (As := []) (rest := [.ref v_13, .ref ((((n + k_6) + k_48) + k_63) + k_234), .ref ((((n + k_6) + k_48) + k_63) + k_234)]) C mi_J1_toString sv_X13_63 (hp_k_isC C.pf e_289 ck_J1) (ct_J1_toString Ev h_280 (((((((((n + k_6) + k_48) + k_63) + k_234) + 1) + 1) + k_257) + k_269) + k_281) r_279 r_291 _ _ _ e_295) rfl rfl (Nat.le_of_ble_eq_true rfl) ⟨Nat.le_of_ble_eq_true rfl, Nat.le_of_ble_eq_true rfl, Bd.c1 hb ea_296, Bd.s1 hb eb_297⟩ dX13_command_286 rb_xX (rb_kX (rb_w (kc := (((((((kc_j149_70 + k_234) + 1) + 1) + k_257) + k_269) + k_281) + k_293)) (ks := (((((((ks_j149_70 + s_235) + 3) + 4) + s_258) + s_270) + s_282) + s_294)) rfl rfl ?_))
                have hb := Bd.ade hb ea_296 eb_297
                refine rb_aload_n C dX13_command_289 rfl 1 rfl ?_
                obtain ⟨u_300, e_301, hf⟩ := rb_bd hf
                obtain ⟨⟨r_303, h_304, k_305, s_306⟩, e_307, hf⟩ := rb_bd hf
                obtain ⟨a_310, b_311, hf, ea_308, eb_309⟩ := ad_at hf
                rcases r_303 with v_312 | ⟨E_313, q_314⟩
                · dsimp only at hf
                  refine rb_callV (As := []) (rest := [.ref r_291, .ref v_13, .ref ((((n + k_6) + k_48) + k_63) + k_234), .ref ((((n + k_6) + k_48) + k_63) + k_234)]) C mi_X13_digit sv_X13_114 (hp_k_isC C.pf e_301 ck_X13) (ct_X13_digit Ev h_292 ((((((((((n + k_6) + k_48) + k_63) + k_234) + 1) + 1) + k_257) + k_269) + k_281) + k_293) o (.inl v_312) _ _ _ e_307) rfl rfl (Nat.le_of_ble_eq_true rfl) ⟨Nat.le_of_ble_eq_true rfl, Nat.le_of_ble_eq_true rfl, Bd.c1 hb ea_308, Bd.s1 hb eb_309⟩ dX13_command_290 rb_xX (rb_kX (r := some (.int v_312)) (rb_w (kc := ((((((((kc_j149_70 + k_234) + 1) + 1) + k_257) + k_269) + k_281) + k_293) + k_305)) (ks := ((((((((ks_j149_70 + s_235) + 3) + 4) + s_258) + s_270) + s_282) + s_294) + s_306)) rfl rfl ?_))
                  have hb := Bd.ade hb ea_308 eb_309
                  obtain ⟨⟨r_316, h_317, k_318, s_319⟩, e_320, hf⟩ := rb_bd hf
                  obtain ⟨a_323, b_324, hf, ea_321, eb_322⟩ := ad_at hf
                  refine rb_callI (As := [.ref v_13, .ref r_291, .int v_312]) (rest := [.ref ((((n + k_6) + k_48) + k_63) + k_234)]) C mi_X5_init si_X13_96 (ct_X5_init Ev h_304 (((((((((((n + k_6) + k_48) + k_63) + k_234) + 1) + 1) + k_257) + k_269) + k_281) + k_293) + k_305) ((((n + k_6) + k_48) + k_63) + k_234) v_13 r_291 v_312 r_316 _ _ _ e_320) rfl rfl (Nat.le_of_ble_eq_true rfl) ⟨Nat.le_of_ble_eq_true rfl, Nat.le_of_ble_eq_true rfl, Bd.c1 hb ea_321, Bd.s1 hb eb_322⟩ dX13_command_293 rb_xX (rb_kX (rb_w (kc := (((((((((kc_j149_70 + k_234) + 1) + 1) + k_257) + k_269) + k_281) + k_293) + k_305) + k_318)) (ks := (((((((((ks_j149_70 + s_235) + 3) + 4) + s_258) + s_270) + s_282) + s_294) + s_306) + s_319)) rfl rfl ?_))
                  have hb := Bd.ade hb ea_321 eb_322
                  cases hf
                  exact rb_aret C rfl (Or.inl ⟨_, rfl⟩) (Or.inr ⟨_, rfl⟩) hb.e.2.1 hb.e.2.2 dX13_command_296 ⟨rfl, rfl, hb.e.1⟩
                · dsimp only at hf
                  by_cases c_325 : E_313 = "RainbowOperators$SyntaxFault"
                  · have hf := (if_pos c_325).symm.trans hf
                    subst c_325
                    refine rb_callV (As := []) (rest := [.ref r_291, .ref v_13, .ref ((((n + k_6) + k_48) + k_63) + k_234), .ref ((((n + k_6) + k_48) + k_63) + k_234)]) C mi_X13_digit sv_X13_114 (hp_k_isC C.pf e_301 ck_X13) (ct_X13_digit Ev h_292 ((((((((((n + k_6) + k_48) + k_63) + k_234) + 1) + 1) + k_257) + k_269) + k_281) + k_293) o (.inr ("RainbowOperators$SyntaxFault", q_314)) _ _ _ e_307) rfl rfl (Nat.le_of_ble_eq_true rfl) ⟨Nat.le_of_ble_eq_true rfl, Nat.le_of_ble_eq_true rfl, Bd.c1 hb ea_308, Bd.s1 hb eb_309⟩ dX13_command_290 (rb_xY (E := "RainbowOperators$SyntaxFault") (rb_wX (kc := ((((((((kc_j149_70 + k_234) + 1) + 1) + k_257) + k_269) + k_281) + k_293) + k_305)) (ks := ((((((((ks_j149_70 + s_235) + 3) + 4) + s_258) + s_270) + s_282) + s_294) + s_306)) rfl rfl ?_)) rb_kY
                    have hb := Bd.ade hb ea_308 eb_309
                    cases hf
                    exact rb_out C (fun _ z => absurd z List.not_mem_nil) hb.e.2.1 hb.e.2.2 ⟨rfl, rfl, hb.e.1⟩
                  have hf := (if_neg c_325).symm.trans hf
                  cases hf
              · dsimp only at hf
                by_cases c_326 : E_242 = "RainbowOperators$SyntaxFault"
                · have hf := (if_pos c_326).symm.trans hf
                  subst c_326
                  refine rb_callV (As := [.ref (eS Ev RX13 112)]) (rest := []) C mi_X13_take sv_X13_50 (hp_k_isC C.pf e_230 ck_X13) (ct_X13_take Ev h_62 (((n + k_6) + k_48) + k_63) o (eS Ev RX13 112) (.inr ("RainbowOperators$SyntaxFault", q_243)) _ _ _ e_236) rfl rfl (Nat.le_of_ble_eq_true rfl) ⟨Nat.le_of_ble_eq_true rfl, Nat.le_of_ble_eq_true rfl, Bd.c1 hb ea_237, Bd.s1 hb eb_238⟩ dX13_command_259 (rb_xY (E := "RainbowOperators$SyntaxFault") (rb_wX (kc := (kc_j149_70 + k_234)) (ks := (ks_j149_70 + s_235)) rfl rfl ?_)) rb_kY
                  have hb := Bd.ade hb ea_237 eb_238
                  cases hf
                  exact rb_out C (fun _ z => absurd z List.not_mem_nil) hb.e.2.1 hb.e.2.2 ⟨rfl, rfl, hb.e.1⟩
                have hf := (if_neg c_326).symm.trans hf
                cases hf
            have hf := (if_neg c_228).symm.trans hf
            by_cases c_327 : y4_j149_70 = 2
            · have hf := (if_pos c_327).symm.trans hf
              refine rb_top (.int 2) (by rw [c_327]) ?_
              refine rb_tableIn (tgt := 297) C dX13_command_151 (by decide) (by decide) (off := 146) (by decide) (by decide) ?_
              refine rb_aload_n C dX13_command_297 rfl 0 rfl ?_
              refine rb_ldcS C q2052 dX13_command_298 ?_
              obtain ⟨u_328, e_329, hf⟩ := rb_bd hf
              obtain ⟨⟨r_331, h_332, k_333, s_334⟩, e_335, hf⟩ := rb_bd hf
              obtain ⟨a_338, b_339, hf, ea_336, eb_337⟩ := ad_at hf
              rcases r_331 with v_340 | ⟨E_341, q_342⟩
              · dsimp only at hf
                refine rb_callV (As := [.ref (eS Ev RX13 117)]) (rest := []) C mi_X13_take sv_X13_50 (hp_k_isC C.pf e_329 ck_X13) (ct_X13_take Ev h_62 (((n + k_6) + k_48) + k_63) o (eS Ev RX13 117) (.inl v_340) _ _ _ e_335) rfl rfl (Nat.le_of_ble_eq_true rfl) ⟨Nat.le_of_ble_eq_true rfl, Nat.le_of_ble_eq_true rfl, Bd.c1 hb ea_336, Bd.s1 hb eb_337⟩ dX13_command_300 rb_xX (rb_kX (r := some (.int v_340)) (rb_w (kc := (kc_j149_70 + k_333)) (ks := (ks_j149_70 + s_334)) rfl rfl ?_))
                have hb := Bd.ade hb ea_336 eb_337
                refine rb_istore (lv' := [(5, .int v_340), (0, .ref o), (1, .ref v_13), (2, .int v_55), (3, .ref v_13), (4, .int y4_j149_70)]) C dX13_command_303 (by decide) rfl ?_
                obtain ⟨a_345, b_346, hf, ea_343, eb_344⟩ := ad_at hf
                refine rb_hnew C ck_X5 q2028 q526 q92 [.null, .null, .int 0] rfl (Bd.c1 hb ea_343) (Bd.s1 hb eb_344) dX13_command_305 ?_
                have hb := Bd.ade hb ea_343 eb_344
                obtain ⟨h_347, e_h_347⟩ : ∃ z, z = (va_up h_332 ((((n + k_6) + k_48) + k_63) + k_333) (some (.inr (3, [.null, .null, .int 0])))) := ⟨_, rfl⟩
                rw [← e_h_347]
                have hf := rb_let hf e_h_347
                refine rb_dup C dX13_command_308 rfl ?_
                refine rb_aload_n C dX13_command_309 rfl 2 rfl ?_
                obtain ⟨a_350, b_351, hf, ea_348, eb_349⟩ := ad_at hf
                refine rb_hnew C ck_J1 q1975 q132 q72 [.null, .int 0, .int 0, .int 0] rfl (Bd.c1 hb ea_348) (Bd.s1 hb eb_349) dX13_command_310 ?_
                have hb := Bd.ade hb ea_348 eb_349
                obtain ⟨h_352, e_h_352⟩ : ∃ z, z = (va_up h_347 (((((n + k_6) + k_48) + k_63) + k_333) + 1) (some (.inr (13, [.null, .int 0, .int 0, .int 0])))) := ⟨_, rfl⟩
                rw [← e_h_352]
                have hf := rb_let hf e_h_352
                refine rb_dup C dX13_command_313 rfl ?_
                obtain ⟨⟨r_354, h_355, k_356, s_357⟩, e_358, hf⟩ := rb_bd hf
                obtain ⟨a_361, b_362, hf, ea_359, eb_360⟩ := ad_at hf
                refine rb_callI (As := []) (rest := [.ref (((((n + k_6) + k_48) + k_63) + k_333) + 1), .ref v_13, .ref ((((n + k_6) + k_48) + k_63) + k_333), .ref ((((n + k_6) + k_48) + k_63) + k_333)]) C mi_J1_init si_X13_58 (ct_J1_init Ev h_352 ((((((n + k_6) + k_48) + k_63) + k_333) + 1) + 1) (((((n + k_6) + k_48) + k_63) + k_333) + 1) r_354 _ _ _ e_358) rfl rfl (Nat.le_of_ble_eq_true rfl) ⟨Nat.le_of_ble_eq_true rfl, Nat.le_of_ble_eq_true rfl, Bd.c1 hb ea_359, Bd.s1 hb eb_360⟩ dX13_command_314 rb_xX (rb_kX (rb_w (kc := ((((kc_j149_70 + k_333) + 1) + 1) + k_356)) (ks := ((((ks_j149_70 + s_334) + 3) + 4) + s_357)) rfl rfl ?_))
                have hb := Bd.ade hb ea_359 eb_360
                refine rb_ldcS C q2029 dX13_command_317 ?_
                obtain ⟨u_363, e_364, hf⟩ := rb_bd hf
                obtain ⟨⟨r_366, h_367, k_368, s_369⟩, e_370, hf⟩ := rb_bd hf
                obtain ⟨a_373, b_374, hf, ea_371, eb_372⟩ := ad_at hf
                refine rb_callV (As := [.ref (eS Ev RX13 94)]) (rest := [.ref v_13, .ref ((((n + k_6) + k_48) + k_63) + k_333), .ref ((((n + k_6) + k_48) + k_63) + k_333)]) C mi_J1_append_3 sv_X13_59 (hp_k_isC C.pf e_364 ck_J1) (ct_J1_append_3 Ev h_355 (((((((n + k_6) + k_48) + k_63) + k_333) + 1) + 1) + k_356) (((((n + k_6) + k_48) + k_63) + k_333) + 1) (eS Ev RX13 94) r_366 _ _ _ e_370) rfl rfl (Nat.le_of_ble_eq_true rfl) ⟨Nat.le_of_ble_eq_true rfl, Nat.le_of_ble_eq_true rfl, Bd.c1 hb ea_371, Bd.s1 hb eb_372⟩ dX13_command_319 rb_xX (rb_kX (rb_w (kc := (((((kc_j149_70 + k_333) + 1) + 1) + k_356) + k_368)) (ks := (((((ks_j149_70 + s_334) + 3) + 4) + s_357) + s_369)) rfl rfl ?_))
                have hb := Bd.ade hb ea_371 eb_372
                refine rb_iload C dX13_command_322 0 rfl ?_
                obtain ⟨u_375, e_376, hf⟩ := rb_bd hf
                obtain ⟨⟨r_378, h_379, k_380, s_381⟩, e_382, hf⟩ := rb_bd hf
                obtain ⟨a_385, b_386, hf, ea_383, eb_384⟩ := ad_at hf
                refine rb_callV (As := [.int v_340]) (rest := [.ref v_13, .ref ((((n + k_6) + k_48) + k_63) + k_333), .ref ((((n + k_6) + k_48) + k_63) + k_333)]) C mi_J1_append_7 sv_X13_74 (hp_k_isC C.pf e_376 ck_J1) (ct_J1_append_7 Ev h_367 ((((((((n + k_6) + k_48) + k_63) + k_333) + 1) + 1) + k_356) + k_368) r_366 v_340 r_378 _ _ _ e_382) rfl rfl (Nat.le_of_ble_eq_true rfl) ⟨Nat.le_of_ble_eq_true rfl, Nat.le_of_ble_eq_true rfl, Bd.c1 hb ea_383, Bd.s1 hb eb_384⟩ dX13_command_324 rb_xX (rb_kX (rb_w (kc := ((((((kc_j149_70 + k_333) + 1) + 1) + k_356) + k_368) + k_380)) (ks := ((((((ks_j149_70 + s_334) + 3) + 4) + s_357) + s_369) + s_381)) rfl rfl ?_))
                have hb := Bd.ade hb ea_383 eb_384
                refine rb_aload_n C dX13_command_327 rfl 1 rfl ?_
                refine rb_ldcS C q2053 dX13_command_328 ?_
                obtain ⟨u_387, e_388, hf⟩ := rb_bd hf
                obtain ⟨⟨r_390, h_391, k_392, s_393⟩, e_394, hf⟩ := rb_bd hf
                obtain ⟨a_397, b_398, hf, ea_395, eb_396⟩ := ad_at hf
                rcases r_390 with v_399 | ⟨E_400, q_401⟩
                · dsimp only at hf
                  refine rb_callV (As := [.ref (eS Ev RX13 119)]) (rest := [.ref r_378, .ref v_13, .ref ((((n + k_6) + k_48) + k_63) + k_333), .ref ((((n + k_6) + k_48) + k_63) + k_333)]) C mi_X13_take sv_X13_50 (hp_k_isC C.pf e_388 ck_X13) (ct_X13_take Ev h_379 (((((((((n + k_6) + k_48) + k_63) + k_333) + 1) + 1) + k_356) + k_368) + k_380) o (eS Ev RX13 119) (.inl v_399) _ _ _ e_394) rfl rfl (Nat.le_of_ble_eq_true rfl) ⟨Nat.le_of_ble_eq_true rfl, Nat.le_of_ble_eq_true rfl, Bd.c1 hb ea_395, Bd.s1 hb eb_396⟩ dX13_command_330 rb_xX (rb_kX (r := some (.int v_399)) (rb_w (kc := (((((((kc_j149_70 + k_333) + 1) + 1) + k_356) + k_368) + k_380) + k_392)) (ks := (((((((ks_j149_70 + s_334) + 3) + 4) + s_357) + s_369) + s_381) + s_393)) rfl rfl ?_))
                  have hb := Bd.ade hb ea_395 eb_396
                  obtain ⟨u_402, e_403, hf⟩ := rb_bd hf
                  obtain ⟨⟨r_405, h_406, k_407, s_408⟩, e_409, hf⟩ := rb_bd hf
                  obtain ⟨a_412, b_413, hf, ea_410, eb_411⟩ := ad_at hf
                  refine rb_callV (As := [.int v_399]) (rest := [.ref v_13, .ref ((((n + k_6) + k_48) + k_63) + k_333), .ref ((((n + k_6) + k_48) + k_63) + k_333)]) C mi_J1_append_7 sv_X13_74 (hp_k_isC C.pf e_403 ck_J1) (ct_J1_append_7 Ev h_391 ((((((((((n + k_6) + k_48) + k_63) + k_333) + 1) + 1) + k_356) + k_368) + k_380) + k_392) r_378 v_399 r_405 _ _ _ e_409) rfl rfl (Nat.le_of_ble_eq_true rfl) ⟨Nat.le_of_ble_eq_true rfl, Nat.le_of_ble_eq_true rfl, Bd.c1 hb ea_410, Bd.s1 hb eb_411⟩ dX13_command_333 rb_xX (rb_kX (rb_w (kc := ((((((((kc_j149_70 + k_333) + 1) + 1) + k_356) + k_368) + k_380) + k_392) + k_407)) (ks := ((((((((ks_j149_70 + s_334) + 3) + 4) + s_357) + s_369) + s_381) + s_393) + s_408)) rfl rfl ?_))
                  have hb := Bd.ade hb ea_410 eb_411
                  obtain ⟨u_414, e_415, hf⟩ := rb_bd hf
                  obtain ⟨⟨r_417, h_418, k_419, s_420⟩, e_421, hf⟩ := rb_bd hf
                  obtain ⟨a_424, b_425, hf, ea_422, eb_423⟩ := ad_at hf
                  refine rb_callV (As := []) (rest := [.ref v_13, .ref ((((n + k_6) + k_48) + k_63) + k_333), .ref ((((n + k_6) + k_48) + k_63) + k_333)]) C mi_J1_toString sv_X13_63 (hp_k_isC C.pf e_415 ck_J1) (ct_J1_toString Ev h_406 (((((((((((n + k_6) + k_48) + k_63) + k_333) + 1) + 1) + k_356) + k_368) + k_380) + k_392) + k_407) r_405 r_417 _ _ _ e_421) rfl rfl (Nat.le_of_ble_eq_true rfl) ⟨Nat.le_of_ble_eq_true rfl, Nat.le_of_ble_eq_true rfl, Bd.c1 hb ea_422, Bd.s1 hb eb_423⟩ dX13_command_336 rb_xX (rb_kX (rb_w (kc := (((((((((kc_j149_70 + k_333) + 1) + 1) + k_356) + k_368) + k_380) + k_392) + k_407) + k_419)) (ks := (((((((((ks_j149_70 + s_334) + 3) + 4) + s_357) + s_369) + s_381) + s_393) + s_408) + s_420)) rfl rfl ?_))
                  have hb := Bd.ade hb ea_422 eb_423
                  refine rb_iconst (v := 0) C dX13_command_339 rfl ?_
                  obtain ⟨⟨r_427, h_428, k_429, s_430⟩, e_431, hf⟩ := rb_bd hf
                  obtain ⟨a_434, b_435, hf, ea_432, eb_433⟩ := ad_at hf
                  refine rb_callI (As := [.ref v_13, .ref r_417, .int 0]) (rest := [.ref ((((n + k_6) + k_48) + k_63) + k_333)]) C mi_X5_init si_X13_96 (ct_X5_init Ev h_418 ((((((((((((n + k_6) + k_48) + k_63) + k_333) + 1) + 1) + k_356) + k_368) + k_380) + k_392) + k_407) + k_419) ((((n + k_6) + k_48) + k_63) + k_333) v_13 r_417 0 r_427 _ _ _ e_431) rfl rfl (Nat.le_of_ble_eq_true rfl) ⟨Nat.le_of_ble_eq_true rfl, Nat.le_of_ble_eq_true rfl, Bd.c1 hb ea_432, Bd.s1 hb eb_433⟩ dX13_command_340 rb_xX (rb_kX (rb_w (kc := ((((((((((kc_j149_70 + k_333) + 1) + 1) + k_356) + k_368) + k_380) + k_392) + k_407) + k_419) + k_429)) (ks := ((((((((((ks_j149_70 + s_334) + 3) + 4) + s_357) + s_369) + s_381) + s_393) + s_408) + s_420) + s_430)) rfl rfl ?_))
                  have hb := Bd.ade hb ea_432 eb_433
                  cases hf
                  exact rb_aret C rfl (Or.inl ⟨_, rfl⟩) (Or.inr ⟨_, rfl⟩) hb.e.2.1 hb.e.2.2 dX13_command_343 ⟨rfl, rfl, hb.e.1⟩
                · dsimp only at hf
                  by_cases c_436 : E_400 = "RainbowOperators$SyntaxFault"
                  · have hf := (if_pos c_436).symm.trans hf
                    subst c_436
                    refine rb_callV (As := [.ref (eS Ev RX13 119)]) (rest := [.ref r_378, .ref v_13, .ref ((((n + k_6) + k_48) + k_63) + k_333), .ref ((((n + k_6) + k_48) + k_63) + k_333)]) C mi_X13_take sv_X13_50 (hp_k_isC C.pf e_388 ck_X13) (ct_X13_take Ev h_379 (((((((((n + k_6) + k_48) + k_63) + k_333) + 1) + 1) + k_356) + k_368) + k_380) o (eS Ev RX13 119) (.inr ("RainbowOperators$SyntaxFault", q_401)) _ _ _ e_394) rfl rfl (Nat.le_of_ble_eq_true rfl) ⟨Nat.le_of_ble_eq_true rfl, Nat.le_of_ble_eq_true rfl, Bd.c1 hb ea_395, Bd.s1 hb eb_396⟩ dX13_command_330 (rb_xY (E := "RainbowOperators$SyntaxFault") (rb_wX (kc := (((((((kc_j149_70 + k_333) + 1) + 1) + k_356) + k_368) + k_380) + k_392)) (ks := (((((((ks_j149_70 + s_334) + 3) + 4) + s_357) + s_369) + s_381) + s_393)) rfl rfl ?_)) rb_kY
                    have hb := Bd.ade hb ea_395 eb_396
                    cases hf
                    exact rb_out C (fun _ z => absurd z List.not_mem_nil) hb.e.2.1 hb.e.2.2 ⟨rfl, rfl, hb.e.1⟩
                  have hf := (if_neg c_436).symm.trans hf
                  cases hf
              · dsimp only at hf
                by_cases c_437 : E_341 = "RainbowOperators$SyntaxFault"
                · have hf := (if_pos c_437).symm.trans hf
                  subst c_437
                  refine rb_callV (As := [.ref (eS Ev RX13 117)]) (rest := []) C mi_X13_take sv_X13_50 (hp_k_isC C.pf e_329 ck_X13) (ct_X13_take Ev h_62 (((n + k_6) + k_48) + k_63) o (eS Ev RX13 117) (.inr ("RainbowOperators$SyntaxFault", q_342)) _ _ _ e_335) rfl rfl (Nat.le_of_ble_eq_true rfl) ⟨Nat.le_of_ble_eq_true rfl, Nat.le_of_ble_eq_true rfl, Bd.c1 hb ea_336, Bd.s1 hb eb_337⟩ dX13_command_300 (rb_xY (E := "RainbowOperators$SyntaxFault") (rb_wX (kc := (kc_j149_70 + k_333)) (ks := (ks_j149_70 + s_334)) rfl rfl ?_)) rb_kY
                  have hb := Bd.ade hb ea_336 eb_337
                  cases hf
                  exact rb_out C (fun _ z => absurd z List.not_mem_nil) hb.e.2.1 hb.e.2.2 ⟨rfl, rfl, hb.e.1⟩
                have hf := (if_neg c_437).symm.trans hf
                cases hf
            have hf := (if_neg c_327).symm.trans hf
            by_cases c_438 : y4_j149_70 = 3
            · have hf := (if_pos c_438).symm.trans hf
              refine rb_top (.int 3) (by rw [c_438]) ?_
              refine rb_tableIn (tgt := 344) C dX13_command_151 (by decide) (by decide) (off := 193) (by decide) (by decide) ?_
              obtain ⟨a_441, b_442, hf, ea_439, eb_440⟩ := ad_at hf
              refine rb_hnew C ck_X5 q2028 q526 q92 [.null, .null, .int 0] rfl (Bd.c1 hb ea_439) (Bd.s1 hb eb_440) dX13_command_344 ?_
              have hb := Bd.ade hb ea_439 eb_440
              obtain ⟨h_443, e_h_443⟩ : ∃ z, z = (va_up h_62 (((n + k_6) + k_48) + k_63) (some (.inr (3, [.null, .null, .int 0])))) := ⟨_, rfl⟩
              rw [← e_h_443]
              have hf := rb_let hf e_h_443
              refine rb_dup C dX13_command_347 rfl ?_
              refine rb_aload_n C dX13_command_348 rfl 1 rfl ?_
              refine rb_ldcS C q2029 dX13_command_349 ?_
              refine rb_aload_n C dX13_command_351 rfl 0 rfl ?_
              obtain ⟨u_444, e_445, hf⟩ := rb_bd hf
              obtain ⟨⟨r_447, h_448, k_449, s_450⟩, e_451, hf⟩ := rb_bd hf
              obtain ⟨a_454, b_455, hf, ea_452, eb_453⟩ := ad_at hf
              rcases r_447 with v_456 | ⟨E_457, q_458⟩
              · dsimp only at hf
                refine rb_callV (As := []) (rest := [.ref (eS Ev RX13 94), .ref v_13, .ref (((n + k_6) + k_48) + k_63), .ref (((n + k_6) + k_48) + k_63)]) C mi_X13_digit sv_X13_114 (hp_k_isC C.pf e_445 ck_X13) (ct_X13_digit Ev h_443 ((((n + k_6) + k_48) + k_63) + 1) o (.inl v_456) _ _ _ e_451) rfl rfl (Nat.le_of_ble_eq_true rfl) ⟨Nat.le_of_ble_eq_true rfl, Nat.le_of_ble_eq_true rfl, Bd.c1 hb ea_452, Bd.s1 hb eb_453⟩ dX13_command_352 rb_xX (rb_kX (r := some (.int v_456)) (rb_w (kc := ((kc_j149_70 + 1) + k_449)) (ks := ((ks_j149_70 + 3) + s_450)) rfl rfl ?_))
                have hb := Bd.ade hb ea_452 eb_453
                obtain ⟨⟨r_460, h_461, k_462, s_463⟩, e_464, hf⟩ := rb_bd hf
                obtain ⟨a_467, b_468, hf, ea_465, eb_466⟩ := ad_at hf
                refine rb_callI (As := [.ref v_13, .ref (eS Ev RX13 94), .int v_456]) (rest := [.ref (((n + k_6) + k_48) + k_63)]) C mi_X5_init si_X13_96 (ct_X5_init Ev h_448 (((((n + k_6) + k_48) + k_63) + 1) + k_449) (((n + k_6) + k_48) + k_63) v_13 (eS Ev RX13 94) v_456 r_460 _ _ _ e_464) rfl rfl (Nat.le_of_ble_eq_true rfl) ⟨Nat.le_of_ble_eq_true rfl, Nat.le_of_ble_eq_true rfl, Bd.c1 hb ea_465, Bd.s1 hb eb_466⟩ dX13_command_355 rb_xX (rb_kX (rb_w (kc := (((kc_j149_70 + 1) + k_449) + k_462)) (ks := (((ks_j149_70 + 3) + s_450) + s_463)) rfl rfl ?_))
                have hb := Bd.ade hb ea_465 eb_466
                cases hf
                exact rb_aret C rfl (Or.inl ⟨_, rfl⟩) (Or.inr ⟨_, rfl⟩) hb.e.2.1 hb.e.2.2 dX13_command_358 ⟨rfl, rfl, hb.e.1⟩
              · dsimp only at hf
                by_cases c_469 : E_457 = "RainbowOperators$SyntaxFault"
                · have hf := (if_pos c_469).symm.trans hf
                  subst c_469
                  refine rb_callV (As := []) (rest := [.ref (eS Ev RX13 94), .ref v_13, .ref (((n + k_6) + k_48) + k_63), .ref (((n + k_6) + k_48) + k_63)]) C mi_X13_digit sv_X13_114 (hp_k_isC C.pf e_445 ck_X13) (ct_X13_digit Ev h_443 ((((n + k_6) + k_48) + k_63) + 1) o (.inr ("RainbowOperators$SyntaxFault", q_458)) _ _ _ e_451) rfl rfl (Nat.le_of_ble_eq_true rfl) ⟨Nat.le_of_ble_eq_true rfl, Nat.le_of_ble_eq_true rfl, Bd.c1 hb ea_452, Bd.s1 hb eb_453⟩ dX13_command_352 (rb_xY (E := "RainbowOperators$SyntaxFault") (rb_wX (kc := ((kc_j149_70 + 1) + k_449)) (ks := ((ks_j149_70 + 3) + s_450)) rfl rfl ?_)) rb_kY
                  have hb := Bd.ade hb ea_452 eb_453
                  cases hf
                  exact rb_out C (fun _ z => absurd z List.not_mem_nil) hb.e.2.1 hb.e.2.2 ⟨rfl, rfl, hb.e.1⟩
                have hf := (if_neg c_469).symm.trans hf
                cases hf
            have hf := (if_neg c_438).symm.trans hf
            refine rb_tableOut (tgt := 359) C dX13_command_151 (by have z0 := lv_neT (k := 0) (a := 0) c_71 (by decide); have z1 := lv_neT (k := 1) (a := 1) c_228 (by decide); have z2 := lv_neT (k := 2) (a := 2) c_327 (by decide); have z3 := lv_neT (k := 3) (a := 3) c_438 (by decide); omega) (by decide) ?_
            obtain ⟨a_472, b_473, hf, ea_470, eb_471⟩ := ad_at hf
            refine rb_hnew C ck_X5 q2028 q526 q92 [.null, .null, .int 0] rfl (Bd.c1 hb ea_470) (Bd.s1 hb eb_471) dX13_command_359 ?_
            have hb := Bd.ade hb ea_470 eb_471
            obtain ⟨h_474, e_h_474⟩ : ∃ z, z = (va_up h_62 (((n + k_6) + k_48) + k_63) (some (.inr (3, [.null, .null, .int 0])))) := ⟨_, rfl⟩
            rw [← e_h_474]
            have hf := rb_let hf e_h_474
            refine rb_dup C dX13_command_362 rfl ?_
            refine rb_aload_n C dX13_command_363 rfl 1 rfl ?_
            obtain ⟨a_477, b_478, hf, ea_475, eb_476⟩ := ad_at hf
            refine rb_hnew C ck_J1 q1975 q132 q72 [.null, .int 0, .int 0, .int 0] rfl (Bd.c1 hb ea_475) (Bd.s1 hb eb_476) dX13_command_364 ?_
            have hb := Bd.ade hb ea_475 eb_476
            obtain ⟨h_479, e_h_479⟩ : ∃ z, z = (va_up h_474 ((((n + k_6) + k_48) + k_63) + 1) (some (.inr (13, [.null, .int 0, .int 0, .int 0])))) := ⟨_, rfl⟩
            rw [← e_h_479]
            have hf := rb_let hf e_h_479
            refine rb_dup C dX13_command_367 rfl ?_
            obtain ⟨⟨r_481, h_482, k_483, s_484⟩, e_485, hf⟩ := rb_bd hf
            obtain ⟨a_488, b_489, hf, ea_486, eb_487⟩ := ad_at hf
            refine rb_callI (As := []) (rest := [.ref ((((n + k_6) + k_48) + k_63) + 1), .ref v_13, .ref (((n + k_6) + k_48) + k_63), .ref (((n + k_6) + k_48) + k_63)]) C mi_J1_init si_X13_58 (ct_J1_init Ev h_479 (((((n + k_6) + k_48) + k_63) + 1) + 1) ((((n + k_6) + k_48) + k_63) + 1) r_481 _ _ _ e_485) rfl rfl (Nat.le_of_ble_eq_true rfl) ⟨Nat.le_of_ble_eq_true rfl, Nat.le_of_ble_eq_true rfl, Bd.c1 hb ea_486, Bd.s1 hb eb_487⟩ dX13_command_368 rb_xX (rb_kX (rb_w (kc := (((kc_j149_70 + 1) + 1) + k_483)) (ks := (((ks_j149_70 + 3) + 4) + s_484)) rfl rfl ?_))
            have hb := Bd.ade hb ea_486 eb_487
            refine rb_ldcS C q2029 dX13_command_371 ?_
            obtain ⟨u_490, e_491, hf⟩ := rb_bd hf
            obtain ⟨⟨r_493, h_494, k_495, s_496⟩, e_497, hf⟩ := rb_bd hf
            obtain ⟨a_500, b_501, hf, ea_498, eb_499⟩ := ad_at hf
            refine rb_callV (As := [.ref (eS Ev RX13 94)]) (rest := [.ref v_13, .ref (((n + k_6) + k_48) + k_63), .ref (((n + k_6) + k_48) + k_63)]) C mi_J1_append_3 sv_X13_59 (hp_k_isC C.pf e_491 ck_J1) (ct_J1_append_3 Ev h_482 ((((((n + k_6) + k_48) + k_63) + 1) + 1) + k_483) ((((n + k_6) + k_48) + k_63) + 1) (eS Ev RX13 94) r_493 _ _ _ e_497) rfl rfl (Nat.le_of_ble_eq_true rfl) ⟨Nat.le_of_ble_eq_true rfl, Nat.le_of_ble_eq_true rfl, Bd.c1 hb ea_498, Bd.s1 hb eb_499⟩ dX13_command_373 rb_xX (rb_kX (rb_w (kc := ((((kc_j149_70 + 1) + 1) + k_483) + k_495)) (ks := ((((ks_j149_70 + 3) + 4) + s_484) + s_496)) rfl rfl ?_))
            have hb := Bd.ade hb ea_498 eb_499
            refine rb_aload_n C dX13_command_376 rfl 0 rfl ?_
            refine rb_ldcS C q2054 dX13_command_377 ?_
            obtain ⟨u_502, e_503, hf⟩ := rb_bd hf
            obtain ⟨⟨r_505, h_506, k_507, s_508⟩, e_509, hf⟩ := rb_bd hf
            obtain ⟨a_512, b_513, hf, ea_510, eb_511⟩ := ad_at hf
            rcases r_505 with v_514 | ⟨E_515, q_516⟩
            · dsimp only at hf
              refine rb_callV (As := [.ref (eS Ev RX13 121)]) (rest := [.ref r_493, .ref v_13, .ref (((n + k_6) + k_48) + k_63), .ref (((n + k_6) + k_48) + k_63)]) C mi_X13_take sv_X13_50 (hp_k_isC C.pf e_503 ck_X13) (ct_X13_take Ev h_494 (((((((n + k_6) + k_48) + k_63) + 1) + 1) + k_483) + k_495) o (eS Ev RX13 121) (.inl v_514) _ _ _ e_509) rfl rfl (Nat.le_of_ble_eq_true rfl) ⟨Nat.le_of_ble_eq_true rfl, Nat.le_of_ble_eq_true rfl, Bd.c1 hb ea_510, Bd.s1 hb eb_511⟩ dX13_command_379 rb_xX (rb_kX (r := some (.int v_514)) (rb_w (kc := (((((kc_j149_70 + 1) + 1) + k_483) + k_495) + k_507)) (ks := (((((ks_j149_70 + 3) + 4) + s_484) + s_496) + s_508)) rfl rfl ?_))
              have hb := Bd.ade hb ea_510 eb_511
              obtain ⟨u_517, e_518, hf⟩ := rb_bd hf
              obtain ⟨⟨r_520, h_521, k_522, s_523⟩, e_524, hf⟩ := rb_bd hf
              obtain ⟨a_527, b_528, hf, ea_525, eb_526⟩ := ad_at hf
              refine rb_callV (As := [.int v_514]) (rest := [.ref v_13, .ref (((n + k_6) + k_48) + k_63), .ref (((n + k_6) + k_48) + k_63)]) C mi_J1_append_7 sv_X13_74 (hp_k_isC C.pf e_518 ck_J1) (ct_J1_append_7 Ev h_506 ((((((((n + k_6) + k_48) + k_63) + 1) + 1) + k_483) + k_495) + k_507) r_493 v_514 r_520 _ _ _ e_524) rfl rfl (Nat.le_of_ble_eq_true rfl) ⟨Nat.le_of_ble_eq_true rfl, Nat.le_of_ble_eq_true rfl, Bd.c1 hb ea_525, Bd.s1 hb eb_526⟩ dX13_command_382 rb_xX (rb_kX (rb_w (kc := ((((((kc_j149_70 + 1) + 1) + k_483) + k_495) + k_507) + k_522)) (ks := ((((((ks_j149_70 + 3) + 4) + s_484) + s_496) + s_508) + s_523)) rfl rfl ?_))
              have hb := Bd.ade hb ea_525 eb_526
              obtain ⟨u_529, e_530, hf⟩ := rb_bd hf
              obtain ⟨⟨r_532, h_533, k_534, s_535⟩, e_536, hf⟩ := rb_bd hf
              obtain ⟨a_539, b_540, hf, ea_537, eb_538⟩ := ad_at hf
              refine rb_callV (As := []) (rest := [.ref v_13, .ref (((n + k_6) + k_48) + k_63), .ref (((n + k_6) + k_48) + k_63)]) C mi_J1_toString sv_X13_63 (hp_k_isC C.pf e_530 ck_J1) (ct_J1_toString Ev h_521 (((((((((n + k_6) + k_48) + k_63) + 1) + 1) + k_483) + k_495) + k_507) + k_522) r_520 r_532 _ _ _ e_536) rfl rfl (Nat.le_of_ble_eq_true rfl) ⟨Nat.le_of_ble_eq_true rfl, Nat.le_of_ble_eq_true rfl, Bd.c1 hb ea_537, Bd.s1 hb eb_538⟩ dX13_command_385 rb_xX (rb_kX (rb_w (kc := (((((((kc_j149_70 + 1) + 1) + k_483) + k_495) + k_507) + k_522) + k_534)) (ks := (((((((ks_j149_70 + 3) + 4) + s_484) + s_496) + s_508) + s_523) + s_535)) rfl rfl ?_))
              have hb := Bd.ade hb ea_537 eb_538
              refine rb_iconst (v := 0) C dX13_command_388 rfl ?_
              obtain ⟨⟨r_542, h_543, k_544, s_545⟩, e_546, hf⟩ := rb_bd hf
              obtain ⟨a_549, b_550, hf, ea_547, eb_548⟩ := ad_at hf
              refine rb_callI (As := [.ref v_13, .ref r_532, .int 0]) (rest := [.ref (((n + k_6) + k_48) + k_63)]) C mi_X5_init si_X13_96 (ct_X5_init Ev h_533 ((((((((((n + k_6) + k_48) + k_63) + 1) + 1) + k_483) + k_495) + k_507) + k_522) + k_534) (((n + k_6) + k_48) + k_63) v_13 r_532 0 r_542 _ _ _ e_546) rfl rfl (Nat.le_of_ble_eq_true rfl) ⟨Nat.le_of_ble_eq_true rfl, Nat.le_of_ble_eq_true rfl, Bd.c1 hb ea_547, Bd.s1 hb eb_548⟩ dX13_command_389 rb_xX (rb_kX (rb_w (kc := ((((((((kc_j149_70 + 1) + 1) + k_483) + k_495) + k_507) + k_522) + k_534) + k_544)) (ks := ((((((((ks_j149_70 + 3) + 4) + s_484) + s_496) + s_508) + s_523) + s_535) + s_545)) rfl rfl ?_))
              have hb := Bd.ade hb ea_547 eb_548
              cases hf
              exact rb_aret C rfl (Or.inl ⟨_, rfl⟩) (Or.inr ⟨_, rfl⟩) hb.e.2.1 hb.e.2.2 dX13_command_392 ⟨rfl, rfl, hb.e.1⟩
            · dsimp only at hf
              by_cases c_551 : E_515 = "RainbowOperators$SyntaxFault"
              · have hf := (if_pos c_551).symm.trans hf
                subst c_551
                refine rb_callV (As := [.ref (eS Ev RX13 121)]) (rest := [.ref r_493, .ref v_13, .ref (((n + k_6) + k_48) + k_63), .ref (((n + k_6) + k_48) + k_63)]) C mi_X13_take sv_X13_50 (hp_k_isC C.pf e_503 ck_X13) (ct_X13_take Ev h_494 (((((((n + k_6) + k_48) + k_63) + 1) + 1) + k_483) + k_495) o (eS Ev RX13 121) (.inr ("RainbowOperators$SyntaxFault", q_516)) _ _ _ e_509) rfl rfl (Nat.le_of_ble_eq_true rfl) ⟨Nat.le_of_ble_eq_true rfl, Nat.le_of_ble_eq_true rfl, Bd.c1 hb ea_510, Bd.s1 hb eb_511⟩ dX13_command_379 (rb_xY (E := "RainbowOperators$SyntaxFault") (rb_wX (kc := (((((kc_j149_70 + 1) + 1) + k_483) + k_495) + k_507)) (ks := (((((ks_j149_70 + 3) + 4) + s_484) + s_496) + s_508)) rfl rfl ?_)) rb_kY
                have hb := Bd.ade hb ea_510 eb_511
                cases hf
                exact rb_out C (fun _ z => absurd z List.not_mem_nil) hb.e.2.1 hb.e.2.2 ⟨rfl, rfl, hb.e.1⟩
              have hf := (if_neg c_551).symm.trans hf
              cases hf
          by_cases c_552 : r_61 = (-1354842676)
          · have hf := (if_pos c_552).symm.trans hf
            refine rb_top (.int (-1354842676)) (by rw [c_552]) ?_
            refine rb_lookup (tgt := 107) C dX13_command_51 (by decide) (off := 56) (by decide) (by decide) ?_
            refine rb_aload_n C dX13_command_107 rfl 1 rfl ?_
            refine rb_ldcS C q2042 dX13_command_108 ?_
            obtain ⟨u_553, e_554, hf⟩ := rb_bd hf
            obtain ⟨v_556, e_557, hf⟩ := rb_bd hf
            refine rb_callV (As := [.ref (eS Ev RX13 104)]) (rest := []) C mi_J2_equals sv_X13_86 (hp_k_isC C.pf e_554 ck_J2) (ct_J2_equals Ev h_62 (((n + k_6) + k_48) + k_63) v_13 (eS Ev RX13 104) _ e_557) rfl rfl (Nat.le_of_ble_eq_true rfl) ⟨Nat.le_of_ble_eq_true rfl, Nat.le_of_ble_eq_true rfl, hb.c0, hb.s0⟩ dX13_command_110 rb_xXi (rb_kXi fun hn_555 => (rb_w (kc := (((0 + k_6) + k_48) + k_63)) (ks := (((0 + s_7) + s_49) + s_64)) rfl rfl ?_))
            refine rb_if_eq (tgt := 149) C dX13_command_113 (by decide) (fun c_558 => ?_) (fun c_558 => ?_)
            · have hf := (if_pos c_558).symm.trans hf
              refine rb_sub [4, 3, 2, 1, 0] rfl ?_
              exact J_j149_70 (-1)  _ _ _ _ hf hb
            · have hf := (if_neg c_558).symm.trans hf
              refine rb_iconst (v := 1) C dX13_command_116 rfl ?_
              refine rb_istore (lv' := [(4, .int 1), (3, .ref v_13), (2, .int v_55), (1, .ref v_13), (0, .ref o)]) C dX13_command_117 (by decide) rfl ?_
              refine rb_goto (tgt := 149) C dX13_command_119 (by decide) ?_
              refine rb_sub [4, 3, 2, 1, 0] rfl ?_
              exact J_j149_70 1  _ _ _ _ hf hb
          have hf := (if_neg c_552).symm.trans hf
          by_cases c_559 : r_61 = 111375
          · have hf := (if_pos c_559).symm.trans hf
            refine rb_top (.int 111375) (by rw [c_559]) ?_
            refine rb_lookup (tgt := 92) C dX13_command_51 (by decide) (off := 41) (by decide) (by decide) ?_
            refine rb_aload_n C dX13_command_92 rfl 1 rfl ?_
            refine rb_ldcS C q2041 dX13_command_93 ?_
            obtain ⟨u_560, e_561, hf⟩ := rb_bd hf
            obtain ⟨v_563, e_564, hf⟩ := rb_bd hf
            refine rb_callV (As := [.ref (eS Ev RX13 102)]) (rest := []) C mi_J2_equals sv_X13_86 (hp_k_isC C.pf e_561 ck_J2) (ct_J2_equals Ev h_62 (((n + k_6) + k_48) + k_63) v_13 (eS Ev RX13 102) _ e_564) rfl rfl (Nat.le_of_ble_eq_true rfl) ⟨Nat.le_of_ble_eq_true rfl, Nat.le_of_ble_eq_true rfl, hb.c0, hb.s0⟩ dX13_command_95 rb_xXi (rb_kXi fun hn_562 => (rb_w (kc := (((0 + k_6) + k_48) + k_63)) (ks := (((0 + s_7) + s_49) + s_64)) rfl rfl ?_))
            refine rb_if_eq (tgt := 149) C dX13_command_98 (by decide) (fun c_565 => ?_) (fun c_565 => ?_)
            · have hf := (if_pos c_565).symm.trans hf
              refine rb_sub [4, 3, 2, 1, 0] rfl ?_
              exact J_j149_70 (-1)  _ _ _ _ hf hb
            · have hf := (if_neg c_565).symm.trans hf
              refine rb_iconst (v := 0) C dX13_command_101 rfl ?_
              refine rb_istore (lv' := [(4, .int 0), (3, .ref v_13), (2, .int v_55), (1, .ref v_13), (0, .ref o)]) C dX13_command_102 (by decide) rfl ?_
              refine rb_goto (tgt := 149) C dX13_command_104 (by decide) ?_
              refine rb_sub [4, 3, 2, 1, 0] rfl ?_
              exact J_j149_70 0  _ _ _ _ hf hb
          have hf := (if_neg c_559).symm.trans hf
          by_cases c_566 : r_61 = 3347397
          · have hf := (if_pos c_566).symm.trans hf
            refine rb_top (.int 3347397) (by rw [c_566]) ?_
            refine rb_lookup (tgt := 122) C dX13_command_51 (by decide) (off := 71) (by decide) (by decide) ?_
            refine rb_aload_n C dX13_command_122 rfl 1 rfl ?_
            refine rb_ldcS C q2043 dX13_command_123 ?_
            obtain ⟨u_567, e_568, hf⟩ := rb_bd hf
            obtain ⟨v_570, e_571, hf⟩ := rb_bd hf
            refine rb_callV (As := [.ref (eS Ev RX13 106)]) (rest := []) C mi_J2_equals sv_X13_86 (hp_k_isC C.pf e_568 ck_J2) (ct_J2_equals Ev h_62 (((n + k_6) + k_48) + k_63) v_13 (eS Ev RX13 106) _ e_571) rfl rfl (Nat.le_of_ble_eq_true rfl) ⟨Nat.le_of_ble_eq_true rfl, Nat.le_of_ble_eq_true rfl, hb.c0, hb.s0⟩ dX13_command_125 rb_xXi (rb_kXi fun hn_569 => (rb_w (kc := (((0 + k_6) + k_48) + k_63)) (ks := (((0 + s_7) + s_49) + s_64)) rfl rfl ?_))
            refine rb_if_eq (tgt := 149) C dX13_command_128 (by decide) (fun c_572 => ?_) (fun c_572 => ?_)
            · have hf := (if_pos c_572).symm.trans hf
              refine rb_sub [4, 3, 2, 1, 0] rfl ?_
              exact J_j149_70 (-1)  _ _ _ _ hf hb
            · have hf := (if_neg c_572).symm.trans hf
              refine rb_iconst (v := 2) C dX13_command_131 rfl ?_
              refine rb_istore (lv' := [(4, .int 2), (3, .ref v_13), (2, .int v_55), (1, .ref v_13), (0, .ref o)]) C dX13_command_132 (by decide) rfl ?_
              refine rb_goto (tgt := 149) C dX13_command_134 (by decide) ?_
              refine rb_sub [4, 3, 2, 1, 0] rfl ?_
              exact J_j149_70 2  _ _ _ _ hf hb
          have hf := (if_neg c_566).symm.trans hf
          by_cases c_573 : r_61 = 109770985
          · have hf := (if_pos c_573).symm.trans hf
            refine rb_top (.int 109770985) (by rw [c_573]) ?_
            refine rb_lookup (tgt := 137) C dX13_command_51 (by decide) (off := 86) (by decide) (by decide) ?_
            refine rb_aload_n C dX13_command_137 rfl 1 rfl ?_
            refine rb_ldcS C q2044 dX13_command_138 ?_
            obtain ⟨u_574, e_575, hf⟩ := rb_bd hf
            obtain ⟨v_577, e_578, hf⟩ := rb_bd hf
            refine rb_callV (As := [.ref (eS Ev RX13 108)]) (rest := []) C mi_J2_equals sv_X13_86 (hp_k_isC C.pf e_575 ck_J2) (ct_J2_equals Ev h_62 (((n + k_6) + k_48) + k_63) v_13 (eS Ev RX13 108) _ e_578) rfl rfl (Nat.le_of_ble_eq_true rfl) ⟨Nat.le_of_ble_eq_true rfl, Nat.le_of_ble_eq_true rfl, hb.c0, hb.s0⟩ dX13_command_140 rb_xXi (rb_kXi fun hn_576 => (rb_w (kc := (((0 + k_6) + k_48) + k_63)) (ks := (((0 + s_7) + s_49) + s_64)) rfl rfl ?_))
            refine rb_if_eq (tgt := 149) C dX13_command_143 (by decide) (fun c_579 => ?_) (fun c_579 => ?_)
            · have hf := (if_pos c_579).symm.trans hf
              refine rb_sub [4, 3, 2, 1, 0] rfl ?_
              exact J_j149_70 (-1)  _ _ _ _ hf hb
            · have hf := (if_neg c_579).symm.trans hf
              refine rb_iconst (v := 3) C dX13_command_146 rfl ?_
              refine rb_istore (lv' := [(4, .int 3), (3, .ref v_13), (2, .int v_55), (1, .ref v_13), (0, .ref o)]) C dX13_command_147 (by decide) rfl ?_
              refine rb_sub [4, 3, 2, 1, 0] rfl ?_
              exact J_j149_70 3  _ _ _ _ hf hb
          have hf := (if_neg c_573).symm.trans hf
          refine rb_lookup (tgt := 149) C dX13_command_51 (by decide) (off := 98) (by show Op.lookupswitch.offset [(-1354842676, 56), (111375, 41), (3347397, 71), (109770985, 86)] 98 _ = _; rw [lv_osw (k := (-1354842676)) (a := (-1354842676)) c_552 (by decide), lv_osw (k := 111375) (a := 111375) c_559 (by decide), lv_osw (k := 3347397) (a := 3347397) c_566 (by decide), lv_osw (k := 109770985) (a := 109770985) c_573 (by decide)]; rfl) (by decide) ?_
          refine rb_sub [4, 3, 2, 1, 0] rfl ?_
          exact J_j149_70 (-1)  _ _ _ _ hf hb
        · dsimp only at hf
          by_cases c_580 : E_56 = "RainbowOperators$SyntaxFault"
          · have hf := (if_pos c_580).symm.trans hf
            subst c_580
            refine rb_callV (As := [.ref (eS Ev RX13 56)]) (rest := []) C mi_X13_take sv_X13_50 (hp_k_isC C.pf e_44 ck_X13) (ct_X13_take Ev h_5 (n + k_6) o (eS Ev RX13 56) (.inr ("RainbowOperators$SyntaxFault", q_57)) _ _ _ e_50) rfl rfl (Nat.le_of_ble_eq_true rfl) ⟨Nat.le_of_ble_eq_true rfl, Nat.le_of_ble_eq_true rfl, Bd.c1 hb ea_51, Bd.s1 hb eb_52⟩ dX13_command_38 (rb_xY (E := "RainbowOperators$SyntaxFault") (rb_wX (kc := ((0 + k_6) + k_48)) (ks := ((0 + s_7) + s_49)) rfl rfl ?_)) rb_kY
            have hb := Bd.ade hb ea_51 eb_52
            cases hf
            exact rb_out C (fun _ z => absurd z List.not_mem_nil) hb.e.2.1 hb.e.2.2 ⟨rfl, rfl, hb.e.1⟩
          have hf := (if_neg c_580).symm.trans hf
          cases hf
      · have hf := (if_neg c_42).symm.trans hf
        obtain ⟨a_583, b_584, hf, ea_581, eb_582⟩ := ad_at hf
        refine rb_hnew C ck_X5 q2028 q526 q92 [.null, .null, .int 0] rfl (Bd.c1 hb ea_581) (Bd.s1 hb eb_582) dX13_command_23 ?_
        have hb := Bd.ade hb ea_581 eb_582
        obtain ⟨h_585, e_h_585⟩ : ∃ z, z = (va_up h_5 (n + k_6) (some (.inr (3, [.null, .null, .int 0])))) := ⟨_, rfl⟩
        rw [← e_h_585]
        have hf := rb_let hf e_h_585
        refine rb_dup C dX13_command_26 rfl ?_
        refine rb_aload_n C dX13_command_27 rfl 0 rfl ?_
        refine rb_ldcS C q2029 dX13_command_28 ?_
        refine rb_iconst (v := 0) C dX13_command_30 rfl ?_
        obtain ⟨⟨r_587, h_588, k_589, s_590⟩, e_591, hf⟩ := rb_bd hf
        obtain ⟨a_594, b_595, hf, ea_592, eb_593⟩ := ad_at hf
        refine rb_callI (As := [.ref v_13, .ref (eS Ev RX13 94), .int 0]) (rest := [.ref (n + k_6)]) C mi_X5_init si_X13_96 (ct_X5_init Ev h_585 ((n + k_6) + 1) (n + k_6) v_13 (eS Ev RX13 94) 0 r_587 _ _ _ e_591) rfl rfl (Nat.le_of_ble_eq_true rfl) ⟨Nat.le_of_ble_eq_true rfl, Nat.le_of_ble_eq_true rfl, Bd.c1 hb ea_592, Bd.s1 hb eb_593⟩ dX13_command_31 rb_xX (rb_kX (rb_w (kc := (((0 + k_6) + 1) + k_589)) (ks := (((0 + s_7) + 3) + s_590)) rfl rfl ?_))
        have hb := Bd.ade hb ea_592 eb_593
        cases hf
        exact rb_aret C rfl (Or.inl ⟨_, rfl⟩) (Or.inr ⟨_, rfl⟩) hb.e.2.1 hb.e.2.2 dX13_command_34 ⟨rfl, rfl, hb.e.1⟩
  · dsimp only at hf
    by_cases c_596 : E_14 = "RainbowOperators$SyntaxFault"
    · have hf := (if_pos c_596).symm.trans hf
      subst c_596
      refine rb_callV (As := []) (rest := []) C mi_X13_word sv_X13_81 (hp_k_isC C.pf e_2 ck_X13) (ct_X13_word Ev h n o (.inr ("RainbowOperators$SyntaxFault", q_15)) _ _ _ e_8) rfl rfl (Nat.le_of_ble_eq_true rfl) ⟨Nat.le_of_ble_eq_true rfl, Nat.le_of_ble_eq_true rfl, Bd.c1 hb ea_9, Bd.s1 hb eb_10⟩ dX13_command_1 (rb_xY (E := "RainbowOperators$SyntaxFault") (rb_wX (kc := (0 + k_6)) (ks := (0 + s_7)) rfl rfl ?_)) rb_kY
      have hb := Bd.ade hb ea_9 eb_10
      cases hf
      exact rb_out C (fun _ z => absurd z List.not_mem_nil) hb.e.2.1 hb.e.2.2 ⟨rfl, rfl, hb.e.1⟩
    have hf := (if_neg c_596).symm.trans hf
    cases hf
