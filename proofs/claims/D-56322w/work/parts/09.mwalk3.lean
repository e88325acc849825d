set_option maxRecDepth 100000
set_option linter.unusedVariables false
def f_X4_meanSky_l9_2 (S : Nat → Int32) (A : Nat → Nat → Int32) : Nat → Int32 → Int32 → Option (UInt64 × (Nat → Int32) × (Nat → Nat → Int32))
  | 0, _, _ => none
  | k_l9_2 + 1, y1_l9_2, y2_l9_2 => (if 5 ≤ y2_l9_2 then (if ((FP.ddiv (FP.i2d y1_l9_2) (4617315517961601024 : UInt64)) &&& 0x7fffffffffffffff ≤ 0x7ff0000000000000) then (some ((FP.ddiv (FP.i2d y1_l9_2) (4617315517961601024 : UInt64)), (upd S 8 0), A)) else none) else if ((39 + y2_l9_2) < 0 ∨ 44 ≤ (39 + y2_l9_2).toNatClampNeg) then none else ((f_X4_meanSky_l9_2 S A k_l9_2) (y1_l9_2 + ((A 0) (39 + y2_l9_2).toNatClampNeg)) (y2_l9_2 + 1)))
def f_X4_meanSky (S : Nat → Int32) (A : Nat → Nat → Int32) : Option (UInt64 × (Nat → Int32) × (Nat → Nat → Int32)) := (f_X4_meanSky_l9_2 S A 4096 0 0)
abbrev rm_X4_meanSky : Room := { frames := 0, cells := 0, slots := 0, locals := 0 }
set_option maxHeartbeats 4000000 in
theorem ct_X4_meanSky (Ev : rb_E) (h : AH) (n : Nat) (o : Nat) (a : Nat → Nat) (S : Nat → Int32) (A : Nat → Nat → Int32)  (rv : UInt64) (rS : Nat → Int32) (rA : Nat → Nat → Int32) (hM : MD Ev h o a S A) (hf : f_X4_meanSky S A = some (rv, rS, rA)) : Ct Ev yX4_meanSky (ws_ yX4_meanSky cX4_meanSky 3 (some .double)) rm_X4_meanSky [.ref o] h n (pMv Ev o a h n (some (.double rv)) rS rA) := by
  refine Ct.of rfl (Nat.le_of_ble_eq_true rfl) fun X C hnm => ?_
  have C : Cx Ev X RX4 cX4_meanSky 3 (some .double) [] := C
  show Wa Ev X rm_X4_meanSky 3 h n 0 0 (rb_MQ Ev X rm_X4_meanSky (pMv Ev o a h n (some (.double rv)) rS rA)) 0 [(0, .ref o)] []
  have hF : mdFr h h o a := mdFr.rf
  rw [f_X4_meanSky] at hf
  refine rb_aload_n C dX4_meanSky_0 rfl 0 rfl ?_
  refine rb_iconst (v := 0) C dX4_meanSky_1 rfl ?_
  refine rb_put (v := .int 0) C fw_X4_73_X4 hM.1 rfl rfl (Nat.le_of_ble_eq_true rfl) dX4_meanSky_2 (fun h_1 e1 e2 => ?_)
  have hM : MD Ev h_1 o a (upd S 8 0) A := hM.put e1 e2 rfl
  have hF := hF.put e2
  refine rb_iconst (v := 0) C dX4_meanSky_5 rfl ?_
  refine rb_istore_n (lv' := [(1, .int 0), (0, .ref o)]) C dX4_meanSky_6 rfl (by decide) rfl ?_
  refine rb_iconst (v := 0) C dX4_meanSky_7 rfl ?_
  refine rb_istore_n (lv' := [(2, .int 0), (1, .int 0), (0, .ref o)]) C dX4_meanSky_8 rfl (by decide) rfl ?_
  have L_l9_2 : ∀ (k_l9_2 : Nat) (y1_l9_2 : Int32) (y2_l9_2 : Int32), f_X4_meanSky_l9_2 S A k_l9_2 y1_l9_2 y2_l9_2 = some (rv, rS, rA) → Wa Ev X rm_X4_meanSky 3 h_1 n 0 0 (rb_MQ Ev X rm_X4_meanSky (pMv Ev o a h n (some (.double rv)) rS rA)) 9 [(0, .ref o), (1, .int y1_l9_2), (2, .int y2_l9_2)] [] := by
    intro k_l9_2
    induction k_l9_2 with
    | zero => intro y1_l9_2 y2_l9_2 hf; cases hf
    | succ k_l9_2 ih_l9_2 =>
      intro y1_l9_2 y2_l9_2 hf
      rw [f_X4_meanSky_l9_2] at hf
      refine rb_iload_n C dX4_meanSky_9 rfl 2 rfl ?_
      refine rb_iconst (v := 5) C dX4_meanSky_10 rfl ?_
      refine rb_icmp_ge (tgt := 32) C dX4_meanSky_11 (by decide) (fun c_3 => ?_) (fun c_3 => ?_)
      · have hf := (if_pos c_3).symm.trans hf
        refine rb_iload_n C dX4_meanSky_32 rfl 1 rfl ?_
        refine rb_i2d C dX4_meanSky_33 ?_
        refine rb_ldc2d C q2663 dX4_meanSky_34 ?_
        by_cases c_g : ((FP.ddiv (FP.i2d y1_l9_2) (4617315517961601024 : UInt64)) &&& 0x7fffffffffffffff ≤ 0x7ff0000000000000)
        rotate_left
        · exact absurd ((if_neg c_g).symm.trans hf) (fun z => by cases z)
        have hf := (if_pos c_g).symm.trans hf
        refine rb_ddiv C dX4_meanSky_37 c_g ?_
        cases hf
        exact rb_dret C rfl (Nat.zero_le _) (Nat.zero_le _) dX4_meanSky_38 ⟨rfl, rfl, hM, hF⟩
      · have hf := (if_neg c_3).symm.trans hf
        refine rb_iload_n C dX4_meanSky_14 rfl 1 rfl ?_
        refine rb_aload_n C dX4_meanSky_15 rfl 0 rfl ?_
        refine rb_get (v := .ref (a 0)) C fl_X4_7_X4 (Or.inl hM.1) rfl dX4_meanSky_16 ?_
        refine rb_bipush (v := 39) C dX4_meanSky_19 rfl ?_
        refine rb_iload_n C dX4_meanSky_21 rfl 2 rfl ?_
        refine rb_iadd C dX4_meanSky_22 ?_
        by_cases c_g : ((39 + y2_l9_2) < 0 ∨ 44 ≤ (39 + y2_l9_2).toNatClampNeg)
        · exact absurd ((if_pos c_g).symm.trans hf) (fun z => by cases z)
        have hf := (if_neg c_g).symm.trans hf
        refine rb_iald (f := (A 0)) C (Or.inl (hM.2.1 0 rfl)) (rb_nN c_g) dX4_meanSky_23 ?_
        refine rb_iadd C dX4_meanSky_24 ?_
        refine rb_istore_n (lv' := [(1, .int (y1_l9_2 + ((A 0) (39 + y2_l9_2).toNatClampNeg))), (0, .ref o), (2, .int y2_l9_2)]) C dX4_meanSky_25 rfl (by decide) rfl ?_
        refine rb_iinc (v := (y2_l9_2 + 1)) (lv' := [(2, .int (y2_l9_2 + 1)), (1, .int (y1_l9_2 + ((A 0) (39 + y2_l9_2).toNatClampNeg))), (0, .ref o)]) C dX4_meanSky_26 (k := 2) rfl rfl (by decide) rfl ?_
        refine rb_goto (tgt := 9) C dX4_meanSky_29 (by decide) ?_
        refine rb_sub [2, 1, 0] rfl ?_
        exact ih_l9_2 (y1_l9_2 + ((A 0) (39 + y2_l9_2).toNatClampNeg)) (y2_l9_2 + 1) hf
  refine rb_sub [2, 1, 0] rfl ?_
  exact L_l9_2 4096 0 0 hf
def f_X4_sunShare_j54_19 (y1_l27_11 : Int32) (y2_l27_11 : Int32) (rec_l27_11 : Int32 → Int32 → Option (UInt32 × (Nat → Int32) × (Nat → Nat → Int32))) (w0_j54_19 : Int32) : Option (UInt32 × (Nat → Int32) × (Nat → Nat → Int32)) := (rec_l27_11 (y1_l27_11 + w0_j54_19) (y2_l27_11 + 1))
def f_X4_sunShare_l27_11 (S_5 : Nat → Int32) (A_6 : Nat → Nat → Int32) : Nat → Int32 → Int32 → Option (UInt32 × (Nat → Int32) × (Nat → Nat → Int32))
  | 0, _, _ => none
  | k_l27_11 + 1, y1_l27_11, y2_l27_11 => (if ((A_6 0) 0) ≤ y2_l27_11 then (if ((FP.fdiv (FP.i2f y1_l27_11) (FP.i2f ((A_6 0) 0))) &&& 0x7fffffff ≤ 0x7f800000) then (some ((FP.fdiv (FP.i2f y1_l27_11) (FP.i2f ((A_6 0) 0))), S_5, A_6)) else none) else ((f_X4_draft S_5 A_6 y2_l27_11).bind fun v_15 => (if (f_X4_isSun v_15) = 0 then (f_X4_sunShare_j54_19 y1_l27_11 y2_l27_11 (f_X4_sunShare_l27_11 S_5 A_6 k_l27_11) 0) else (f_X4_sunShare_j54_19 y1_l27_11 y2_l27_11 (f_X4_sunShare_l27_11 S_5 A_6 k_l27_11) 1))))
def f_X4_sunShare_j15_2 (S : Nat → Int32) (A : Nat → Nat → Int32) (w0_j15_2 : Int32) : Option (UInt32 × (Nat → Int32) × (Nat → Nat → Int32)) := ((f_X4_fails S A w0_j15_2).bind fun (v_8, S_5, A_6) => (if v_8 = 0 then (f_X4_sunShare_l27_11 S_5 A_6 4096 0 0) else (some (FP.fconst0, S_5, A_6))))
def f_X4_sunShare (S : Nat → Int32) (A : Nat → Nat → Int32) : Option (UInt32 × (Nat → Int32) × (Nat → Nat → Int32)) := (if ((A 0) 0) = 0 then (f_X4_sunShare_j15_2 S A 1) else (f_X4_sunShare_j15_2 S A 0))
abbrev rm_X4_sunShare : Room := { frames := 1, cells := 0, slots := 0, locals := 21 }
set_option maxHeartbeats 4000000 in
theorem ct_X4_sunShare (Ev : rb_E) (h : AH) (n : Nat) (o : Nat) (a : Nat → Nat) (S : Nat → Int32) (A : Nat → Nat → Int32)  (rv : UInt32) (rS : Nat → Int32) (rA : Nat → Nat → Int32) (hM : MD Ev h o a S A) (hf : f_X4_sunShare S A = some (rv, rS, rA)) : Ct Ev yX4_sunShare (ws_ yX4_sunShare cX4_sunShare 3 (some .float)) rm_X4_sunShare [.ref o] h n (pMv Ev o a h n (some (.float rv)) rS rA) := by
  refine Ct.of rfl (Nat.le_of_ble_eq_true rfl) fun X C hnm => ?_
  have C : Cx Ev X RX4 cX4_sunShare 3 (some .float) [] := C
  show Wa Ev X rm_X4_sunShare 3 h n 0 0 (rb_MQ Ev X rm_X4_sunShare (pMv Ev o a h n (some (.float rv)) rS rA)) 0 [(0, .ref o)] []
  have hF : mdFr h h o a := mdFr.rf
  rw [f_X4_sunShare] at hf
  refine rb_aload_n C dX4_sunShare_0 rfl 0 rfl ?_
  refine rb_aload_n C dX4_sunShare_1 rfl 0 rfl ?_
  refine rb_get (v := .ref (a 0)) C fl_X4_7_X4 (Or.inl hM.1) rfl dX4_sunShare_2 ?_
  refine rb_iconst (v := 0) C dX4_sunShare_5 rfl ?_
  refine rb_iald (f := (A 0)) C (Or.inl (hM.2.1 0 rfl)) (rb_nN (by decide)) dX4_sunShare_6 ?_
  refine rb_top (.int ((A 0) 0)) rfl ?_
  have J_j15_2 : ∀ (w0_j15_2 : Int32), f_X4_sunShare_j15_2 S A w0_j15_2 = some (rv, rS, rA) → Wa Ev X rm_X4_sunShare 3 h n 0 0 (rb_MQ Ev X rm_X4_sunShare (pMv Ev o a h n (some (.float rv)) rS rA)) 15 [(0, .ref o)] [.int w0_j15_2, .ref o] := by
    intro w0_j15_2 hf
    rw [f_X4_sunShare_j15_2] at hf
    obtain ⟨⟨v_8, S_5, A_6⟩, e_4, hf⟩ := rb_bd hf
    refine rb_zVM C mi_X4_fails sv_X4_123 (IsC.of (Or.inl hM.1) ck_X4) (ct_X4_fails Ev h n o a S A w0_j15_2 _ _ _ hM e_4) (rest := []) rfl rfl (Nat.le_of_ble_eq_true rfl) ⟨Nat.le_of_ble_eq_true rfl, Nat.le_of_ble_eq_true rfl⟩ ⟨Nat.zero_le _, Nat.zero_le _⟩ dX4_sunShare_15 (fun h_7 hM hF1 hn_9 => ?_)
    have hF := hF.tr hF1
    refine rb_if_eq (tgt := 23) C dX4_sunShare_18 (by decide) (fun c_10 => ?_) (fun c_10 => ?_)
    · have hf := (if_pos c_10).symm.trans hf
      refine rb_iconst (v := 0) C dX4_sunShare_23 rfl ?_
      refine rb_istore_n (lv' := [(1, .int 0), (0, .ref o)]) C dX4_sunShare_24 rfl (by decide) rfl ?_
      refine rb_iconst (v := 0) C dX4_sunShare_25 rfl ?_
      refine rb_istore_n (lv' := [(2, .int 0), (1, .int 0), (0, .ref o)]) C dX4_sunShare_26 rfl (by decide) rfl ?_
      have L_l27_11 : ∀ (k_l27_11 : Nat) (y1_l27_11 : Int32) (y2_l27_11 : Int32), f_X4_sunShare_l27_11 S_5 A_6 k_l27_11 y1_l27_11 y2_l27_11 = some (rv, rS, rA) → Wa Ev X rm_X4_sunShare 3 h_7 n 0 0 (rb_MQ Ev X rm_X4_sunShare (pMv Ev o a h n (some (.float rv)) rS rA)) 27 [(0, .ref o), (1, .int y1_l27_11), (2, .int y2_l27_11)] [] := by
        intro k_l27_11
        induction k_l27_11 with
        | zero => intro y1_l27_11 y2_l27_11 hf; cases hf
        | succ k_l27_11 ih_l27_11 =>
          intro y1_l27_11 y2_l27_11 hf
          rw [f_X4_sunShare_l27_11] at hf
          refine rb_iload_n C dX4_sunShare_27 rfl 2 rfl ?_
          refine rb_aload_n C dX4_sunShare_28 rfl 0 rfl ?_
          refine rb_get (v := .ref (a 0)) C fl_X4_7_X4 (Or.inl hM.1) rfl dX4_sunShare_29 ?_
          refine rb_iconst (v := 0) C dX4_sunShare_32 rfl ?_
          refine rb_iald (f := (A_6 0)) C (Or.inl (hM.2.1 0 rfl)) (rb_nN (by decide)) dX4_sunShare_33 ?_
          refine rb_top (.int ((A_6 0) 0)) rfl ?_
          refine rb_icmp_ge (tgt := 62) C dX4_sunShare_34 (by decide) (fun c_12 => ?_) (fun c_12 => ?_)
          · have hf := (if_pos c_12).symm.trans hf
            refine rb_iload_n C dX4_sunShare_62 rfl 1 rfl ?_
            refine rb_i2f C dX4_sunShare_63 ?_
            refine rb_aload_n C dX4_sunShare_64 rfl 0 rfl ?_
            refine rb_get (v := .ref (a 0)) C fl_X4_7_X4 (Or.inl hM.1) rfl dX4_sunShare_65 ?_
            refine rb_iconst (v := 0) C dX4_sunShare_68 rfl ?_
            refine rb_iald (f := (A_6 0)) C (Or.inl (hM.2.1 0 rfl)) (rb_nN (by decide)) dX4_sunShare_69 ?_
            refine rb_top (.int ((A_6 0) 0)) rfl ?_
            refine rb_i2f C dX4_sunShare_70 ?_
            by_cases c_g : ((FP.fdiv (FP.i2f y1_l27_11) (FP.i2f ((A_6 0) 0))) &&& 0x7fffffff ≤ 0x7f800000)
            rotate_left
            · exact absurd ((if_neg c_g).symm.trans hf) (fun z => by cases z)
            have hf := (if_pos c_g).symm.trans hf
            refine rb_fdiv C dX4_sunShare_71 c_g ?_
            cases hf
            exact rb_fret C rfl (Nat.zero_le _) (Nat.zero_le _) dX4_sunShare_72 ⟨rfl, rfl, hM, hF⟩
          · have hf := (if_neg c_12).symm.trans hf
            refine rb_iload_n C dX4_sunShare_37 rfl 1 rfl ?_
            refine rb_aload_n C dX4_sunShare_38 rfl 0 rfl ?_
            refine rb_iload_n C dX4_sunShare_39 rfl 2 rfl ?_
            obtain ⟨v_15, e_14, hf⟩ := rb_bd hf
            refine rb_zVR C mi_X4_draft sv_X4_117 (IsC.of (Or.inl hM.1) ck_X4) (ct_X4_draft Ev h_7 n o a S_5 A_6 y2_l27_11 _ hM e_14) (rest := [.int y1_l27_11]) rfl rfl (Nat.le_of_ble_eq_true rfl) ⟨Nat.le_of_ble_eq_true rfl, Nat.le_of_ble_eq_true rfl⟩ ⟨Nat.zero_le _, Nat.zero_le _⟩ dX4_sunShare_40 (fun hn_16 => ?_)
            refine rb_zSR C mi_X4_isSun ss_X4_114 (ct_X4_isSun Ev h_7 n v_15 _ rfl) (rest := [.int y1_l27_11]) rfl rfl (Nat.le_of_ble_eq_true rfl) ⟨Nat.le_of_ble_eq_true rfl, Nat.le_of_ble_eq_true rfl⟩ ⟨Nat.zero_le _, Nat.zero_le _⟩ dX4_sunShare_43 (fun hn_17 => ?_)
            have J_j54_19 : ∀ (w0_j54_19 : Int32), f_X4_sunShare_j54_19 y1_l27_11 y2_l27_11 (f_X4_sunShare_l27_11 S_5 A_6 k_l27_11) w0_j54_19 = some (rv, rS, rA) → Wa Ev X rm_X4_sunShare 3 h_7 n 0 0 (rb_MQ Ev X rm_X4_sunShare (pMv Ev o a h n (some (.float rv)) rS rA)) 54 [(0, .ref o), (1, .int y1_l27_11), (2, .int y2_l27_11)] [.int w0_j54_19, .int y1_l27_11] := by
              intro w0_j54_19 hf
              rw [f_X4_sunShare_j54_19] at hf
              refine rb_iadd C dX4_sunShare_54 ?_
              refine rb_istore_n (lv' := [(1, .int (y1_l27_11 + w0_j54_19)), (0, .ref o), (2, .int y2_l27_11)]) C dX4_sunShare_55 rfl (by decide) rfl ?_
              refine rb_iinc (v := (y2_l27_11 + 1)) (lv' := [(2, .int (y2_l27_11 + 1)), (1, .int (y1_l27_11 + w0_j54_19)), (0, .ref o)]) C dX4_sunShare_56 (k := 2) rfl rfl (by decide) rfl ?_
              refine rb_goto (tgt := 27) C dX4_sunShare_59 (by decide) ?_
              refine rb_sub [2, 1, 0] rfl ?_
              exact ih_l27_11 (y1_l27_11 + w0_j54_19) (y2_l27_11 + 1) hf
            refine rb_if_eq (tgt := 53) C dX4_sunShare_46 (by decide) (fun c_18 => ?_) (fun c_18 => ?_)
            · have hf := (if_pos c_18).symm.trans hf
              refine rb_iconst (v := 0) C dX4_sunShare_53 rfl ?_
              exact J_j54_19 0 hf
            · have hf := (if_neg c_18).symm.trans hf
              refine rb_iconst (v := 1) C dX4_sunShare_49 rfl ?_
              refine rb_goto (tgt := 54) C dX4_sunShare_50 (by decide) ?_
              exact J_j54_19 1 hf
      refine rb_sub [2, 1, 0] rfl ?_
      exact L_l27_11 4096 0 0 hf
    · have hf := (if_neg c_10).symm.trans hf
      refine rb_fconst0 C dX4_sunShare_21 ?_
      cases hf
      exact rb_fret C rfl (Nat.zero_le _) (Nat.zero_le _) dX4_sunShare_22 ⟨rfl, rfl, hM, hF⟩
  refine rb_if_ne (tgt := 14) C dX4_sunShare_7 (by decide) (fun c_1 => ?_) (fun c_1 => ?_)
  · have hf := (if_neg c_1).symm.trans hf
    refine rb_iconst (v := 0) C dX4_sunShare_14 rfl ?_
    exact J_j15_2 0 hf
  · have hf := (if_pos c_1).symm.trans hf
    refine rb_iconst (v := 1) C dX4_sunShare_10 rfl ?_
    refine rb_goto (tgt := 15) C dX4_sunShare_11 (by decide) ?_
    exact J_j15_2 1 hf
def f_X4_feed_j15_2 (x1 : Int32) (S : Nat → Int32) (A : Nat → Nat → Int32) (w0_j15_2 : Int32) : Option (Int32 × (Nat → Int32) × (Nat → Nat → Int32)) := ((f_X4_fails S A w0_j15_2).bind fun (v_8, S_5, A_6) => (if v_8 = 0 then if ((S_5 13) < 0 ∨ 60 ≤ (S_5 13).toNatClampNeg) then none else (some (((S_5 13) + 1), (upd S_5 13 ((S_5 13) + 1)), (va_up A_6 12 (upd (A_6 12) (S_5 13).toNatClampNeg x1)))) else (some (0, S_5, A_6))))
def f_X4_feed (S : Nat → Int32) (A : Nat → Nat → Int32) (x1 : Int32) : Option (Int32 × (Nat → Int32) × (Nat → Nat → Int32)) := (if (S 13) = 60 then (f_X4_feed_j15_2 x1 S A 1) else (f_X4_feed_j15_2 x1 S A 0))
abbrev rm_X4_feed : Room := { frames := 1, cells := 0, slots := 0, locals := 21 }
set_option maxHeartbeats 4000000 in
theorem ct_X4_feed (Ev : rb_E) (h : AH) (n : Nat) (o : Nat) (a : Nat → Nat) (S : Nat → Int32) (A : Nat → Nat → Int32) (x1 : Int32) (rv : Int32) (rS : Nat → Int32) (rA : Nat → Nat → Int32) (hM : MD Ev h o a S A) (hf : f_X4_feed S A x1 = some (rv, rS, rA)) : Ct Ev yX4_feed (ws_ yX4_feed cX4_feed 2 (some .int)) rm_X4_feed [.ref o, .int x1] h n (pM Ev .int o a h n rv rS rA) := by
  refine Ct.of rfl (Nat.le_of_ble_eq_true rfl) fun X C hnm => ?_
  have C : Cx Ev X RX4 cX4_feed 2 (some .int) [] := C
  show Wa Ev X rm_X4_feed 2 h n 0 0 (rb_MQ Ev X rm_X4_feed (pM Ev .int o a h n rv rS rA)) 0 [(0, .ref o), (1, .int x1)] []
  have hF : mdFr h h o a := mdFr.rf
  rw [f_X4_feed] at hf
  refine rb_aload_n C dX4_feed_0 rfl 0 rfl ?_
  refine rb_aload_n C dX4_feed_1 rfl 0 rfl ?_
  refine rb_get (v := .int (S 13)) C fl_X4_242_X4 (Or.inl hM.1) rfl dX4_feed_2 ?_
  refine rb_bipush (v := 60) C dX4_feed_5 rfl ?_
  have J_j15_2 : ∀ (w0_j15_2 : Int32), f_X4_feed_j15_2 x1 S A w0_j15_2 = some (rv, rS, rA) → Wa Ev X rm_X4_feed 2 h n 0 0 (rb_MQ Ev X rm_X4_feed (pM Ev .int o a h n rv rS rA)) 15 [(0, .ref o), (1, .int x1)] [.int w0_j15_2, .ref o] := by
    intro w0_j15_2 hf
    rw [f_X4_feed_j15_2] at hf
    obtain ⟨⟨v_8, S_5, A_6⟩, e_4, hf⟩ := rb_bd hf
    refine rb_zVM C mi_X4_fails sv_X4_123 (IsC.of (Or.inl hM.1) ck_X4) (ct_X4_fails Ev h n o a S A w0_j15_2 _ _ _ hM e_4) (rest := []) rfl rfl (Nat.le_of_ble_eq_true rfl) ⟨Nat.le_of_ble_eq_true rfl, Nat.le_of_ble_eq_true rfl⟩ ⟨Nat.zero_le _, Nat.zero_le _⟩ dX4_feed_15 (fun h_7 hM hF1 hn_9 => ?_)
    have hF := hF.tr hF1
    refine rb_if_eq (tgt := 23) C dX4_feed_18 (by decide) (fun c_10 => ?_) (fun c_10 => ?_)
    · have hf := (if_pos c_10).symm.trans hf
      refine rb_aload_n C dX4_feed_23 rfl 0 rfl ?_
      refine rb_get (v := .ref (a 12)) C fl_X4_22_X4 (Or.inl hM.1) rfl dX4_feed_24 ?_
      refine rb_aload_n C dX4_feed_27 rfl 0 rfl ?_
      refine rb_get (v := .int (S_5 13)) C fl_X4_242_X4 (Or.inl hM.1) rfl dX4_feed_28 ?_
      refine rb_iload_n C dX4_feed_31 rfl 1 rfl ?_
      by_cases c_g : ((S_5 13) < 0 ∨ 60 ≤ (S_5 13).toNatClampNeg)
      · exact absurd ((if_pos c_g).symm.trans hf) (fun z => by cases z)
      have hf := (if_neg c_g).symm.trans hf
      refine rb_iast (f := (A_6 12)) C (hM.2.1 12 rfl) (rb_nN c_g) dX4_feed_32 (fun h_11 e1 e2 => ?_)
      have hM : MD Ev h_11 o a S_5 (va_up A_6 12 (upd (A_6 12) (S_5 13).toNatClampNeg x1)) := hM.ast 12 rfl e1 e2
      have hF := hF.ast 12 rfl e2
      refine rb_aload_n C dX4_feed_33 rfl 0 rfl ?_
      refine rb_dup C dX4_feed_34 rfl ?_
      refine rb_get (v := .int (S_5 13)) C fl_X4_242_X4 (Or.inl hM.1) rfl dX4_feed_35 ?_
      refine rb_iconst (v := 1) C dX4_feed_38 rfl ?_
      refine rb_iadd C dX4_feed_39 ?_
      refine rb_put (v := .int ((S_5 13) + 1)) C fw_X4_242_X4 hM.1 rfl rfl (Nat.le_of_ble_eq_true rfl) dX4_feed_40 (fun h_12 e1 e2 => ?_)
      have hM : MD Ev h_12 o a (upd S_5 13 ((S_5 13) + 1)) (va_up A_6 12 (upd (A_6 12) (S_5 13).toNatClampNeg x1)) := hM.put e1 e2 rfl
      have hF := hF.put e2
      refine rb_aload_n C dX4_feed_43 rfl 0 rfl ?_
      refine rb_get (v := .int ((S_5 13) + 1)) C fl_X4_242_X4 (Or.inl hM.1) rfl dX4_feed_44 ?_
      cases hf
      exact rb_iret C rfl rfl (Nat.zero_le _) (Nat.zero_le _) dX4_feed_47 ⟨rfl, rfl, hM, hF, rfl⟩
    · have hf := (if_neg c_10).symm.trans hf
      refine rb_iconst (v := 0) C dX4_feed_21 rfl ?_
      cases hf
      exact rb_iret C rfl rfl (Nat.zero_le _) (Nat.zero_le _) dX4_feed_22 ⟨rfl, rfl, hM, hF, rfl⟩
  refine rb_icmp_ne (tgt := 14) C dX4_feed_7 (by decide) (fun c_1 => ?_) (fun c_1 => ?_)
  · have hf := (if_neg c_1).symm.trans hf
    refine rb_iconst (v := 0) C dX4_feed_14 rfl ?_
    exact J_j15_2 0 hf
  · have hf := (if_pos c_1).symm.trans hf
    refine rb_iconst (v := 1) C dX4_feed_10 rfl ?_
    refine rb_goto (tgt := 15) C dX4_feed_11 (by decide) ?_
    exact J_j15_2 1 hf
def f_X4_here (S : Nat → Int32) (A : Nat → Nat → Int32) : Option Int32 := (if (S 13) ≤ (S 31) then (some (-1)) else if ((S 31) < 0 ∨ 60 ≤ (S 31).toNatClampNeg) then none else (some ((A 12) (S 31).toNatClampNeg)))
abbrev rm_X4_here : Room := { frames := 0, cells := 0, slots := 0, locals := 0 }
set_option maxHeartbeats 4000000 in
theorem ct_X4_here (Ev : rb_E) (h : AH) (n : Nat) (o : Nat) (a : Nat → Nat) (S : Nat → Int32) (A : Nat → Nat → Int32)  (rv : Int32) (hM : MD Ev h o a S A) (hf : f_X4_here S A = some rv) : Ct Ev yX4_here (ws_ yX4_here cX4_here 1 (some .int)) rm_X4_here [.ref o] h n (pR .int rv h n) := by
  refine Ct.of rfl (Nat.le_of_ble_eq_true rfl) fun X C hnm => ?_
  have C : Cx Ev X RX4 cX4_here 1 (some .int) [] := C
  show Wa Ev X rm_X4_here 1 h n 0 0 (rb_MQ Ev X rm_X4_here (pR .int rv h n)) 0 [(0, .ref o)] []
  have hF : mdFr h h o a := mdFr.rf
  rw [f_X4_here] at hf
  refine rb_aload_n C dX4_here_0 rfl 0 rfl ?_
  refine rb_get (v := .int (S 31)) C fl_X4_245_X4 (Or.inl hM.1) rfl dX4_here_1 ?_
  refine rb_aload_n C dX4_here_4 rfl 0 rfl ?_
  refine rb_get (v := .int (S 13)) C fl_X4_242_X4 (Or.inl hM.1) rfl dX4_here_5 ?_
  refine rb_icmp_ge (tgt := 23) C dX4_here_8 (by decide) (fun c_1 => ?_) (fun c_1 => ?_)
  · have hf := (if_pos c_1).symm.trans hf
    refine rb_iconst (v := (-1)) C dX4_here_23 rfl ?_
    cases hf
    exact rb_iret C rfl rfl (Nat.zero_le _) (Nat.zero_le _) dX4_here_24 ⟨rfl, rfl, rfl, rfl⟩
  · have hf := (if_neg c_1).symm.trans hf
    refine rb_aload_n C dX4_here_11 rfl 0 rfl ?_
    refine rb_get (v := .ref (a 12)) C fl_X4_22_X4 (Or.inl hM.1) rfl dX4_here_12 ?_
    refine rb_aload_n C dX4_here_15 rfl 0 rfl ?_
    refine rb_get (v := .int (S 31)) C fl_X4_245_X4 (Or.inl hM.1) rfl dX4_here_16 ?_
    by_cases c_g : ((S 31) < 0 ∨ 60 ≤ (S 31).toNatClampNeg)
    · exact absurd ((if_pos c_g).symm.trans hf) (fun z => by cases z)
    have hf := (if_neg c_g).symm.trans hf
    refine rb_iald (f := (A 12)) C (Or.inl (hM.2.1 12 rfl)) (rb_nN c_g) dX4_here_19 ?_
    refine rb_goto (tgt := 24) C dX4_here_20 (by decide) ?_
    cases hf
    exact rb_iret C rfl rfl (Nat.zero_le _) (Nat.zero_le _) dX4_here_24 ⟨rfl, rfl, rfl, rfl⟩
def f_X4_skips (S : Nat → Int32) (A : Nat → Nat → Int32) (x1 : Int32) : Option (Int32 × (Nat → Int32) × (Nat → Nat → Int32)) := ((f_X4_here S A ).bind fun v_3 => (if v_3 = x1 then (some (1, (upd S 31 ((S 31) + 1)), A)) else (some (0, S, A))))
abbrev rm_X4_skips : Room := { frames := 1, cells := 0, slots := 0, locals := 20 }
set_option maxHeartbeats 4000000 in
theorem ct_X4_skips (Ev : rb_E) (h : AH) (n : Nat) (o : Nat) (a : Nat → Nat) (S : Nat → Int32) (A : Nat → Nat → Int32) (x1 : Int32) (rv : Int32) (rS : Nat → Int32) (rA : Nat → Nat → Int32) (hM : MD Ev h o a S A) (hf : f_X4_skips S A x1 = some (rv, rS, rA)) : Ct Ev yX4_skips (ws_ yX4_skips cX4_skips 2 (some .boolean)) rm_X4_skips [.ref o, .int x1] h n (pM Ev .boolean o a h n rv rS rA) := by
  refine Ct.of rfl (Nat.le_of_ble_eq_true rfl) fun X C hnm => ?_
  have C : Cx Ev X RX4 cX4_skips 2 (some .boolean) [] := C
  show Wa Ev X rm_X4_skips 2 h n 0 0 (rb_MQ Ev X rm_X4_skips (pM Ev .boolean o a h n rv rS rA)) 0 [(0, .ref o), (1, .int x1)] []
  have hF : mdFr h h o a := mdFr.rf
  rw [f_X4_skips] at hf
  refine rb_aload_n C dX4_skips_0 rfl 0 rfl ?_
  obtain ⟨v_3, e_2, hf⟩ := rb_bd hf
  refine rb_zVR C mi_X4_here sv_X4_248 (IsC.of (Or.inl hM.1) ck_X4) (ct_X4_here Ev h n o a S A  _ hM e_2) (rest := []) rfl rfl (Nat.le_of_ble_eq_true rfl) ⟨Nat.le_of_ble_eq_true rfl, Nat.le_of_ble_eq_true rfl⟩ ⟨Nat.zero_le _, Nat.zero_le _⟩ dX4_skips_1 (fun hn_4 => ?_)
  refine rb_iload_n C dX4_skips_4 rfl 1 rfl ?_
  refine rb_icmp_eq (tgt := 10) C dX4_skips_5 (by decide) (fun c_5 => ?_) (fun c_5 => ?_)
  · have hf := (if_pos c_5).symm.trans hf
    refine rb_aload_n C dX4_skips_10 rfl 0 rfl ?_
    refine rb_dup C dX4_skips_11 rfl ?_
    refine rb_get (v := .int (S 31)) C fl_X4_245_X4 (Or.inl hM.1) rfl dX4_skips_12 ?_
    refine rb_iconst (v := 1) C dX4_skips_15 rfl ?_
    refine rb_iadd C dX4_skips_16 ?_
    refine rb_put (v := .int ((S 31) + 1)) C fw_X4_245_X4 hM.1 rfl rfl (Nat.le_of_ble_eq_true rfl) dX4_skips_17 (fun h_6 e1 e2 => ?_)
    have hM : MD Ev h_6 o a (upd S 31 ((S 31) + 1)) A := hM.put e1 e2 rfl
    have hF := hF.put e2
    refine rb_iconst (v := 1) C dX4_skips_20 rfl ?_
    cases hf
    exact rb_iret C rfl rfl (Nat.zero_le _) (Nat.zero_le _) dX4_skips_21 ⟨rfl, rfl, hM, hF, rfl⟩
  · have hf := (if_neg c_5).symm.trans hf
    refine rb_iconst (v := 0) C dX4_skips_8 rfl ?_
    cases hf
    exact rb_iret C rfl rfl (Nat.zero_le _) (Nat.zero_le _) dX4_skips_9 ⟨rfl, rfl, hM, hF, rfl⟩
def f_X4_charactersHere_l10_2 (x1 : Int32) : Nat → (Nat → Int32) → (Nat → Nat → Int32) → Option (Int32 × (Nat → Int32) × (Nat → Nat → Int32))
  | 0, _, _ => none
  | k_l10_2 + 1, S_l10_2, A_l10_2 => ((f_X4_here S_l10_2 A_l10_2 ).bind fun v_5 => (if (f_X4_isCharacter v_5) = 0 then if ((x1 + 1) < 0 ∨ 93 ≤ (x1 + 1).toNatClampNeg) then none else if (x1 < 0 ∨ 93 ≤ x1.toNatClampNeg) then none else (if (S_l10_2 31) ≤ ((upd (A_l10_2 32) (x1 + 1).toNatClampNeg (S_l10_2 31)) x1.toNatClampNeg) then (some (0, S_l10_2, (va_up A_l10_2 32 (upd (A_l10_2 32) (x1 + 1).toNatClampNeg (S_l10_2 31))))) else (some (1, S_l10_2, (va_up A_l10_2 32 (upd (A_l10_2 32) (x1 + 1).toNatClampNeg (S_l10_2 31)))))) else ((f_X4_charactersHere_l10_2 x1 k_l10_2) (upd S_l10_2 31 ((S_l10_2 31) + 1)) A_l10_2)))
def f_X4_charactersHere (S : Nat → Int32) (A : Nat → Nat → Int32) (x1 : Int32) : Option (Int32 × (Nat → Int32) × (Nat → Nat → Int32)) := if (x1 < 0 ∨ 93 ≤ x1.toNatClampNeg) then none else (f_X4_charactersHere_l10_2 x1 4096 S (va_up A 32 (upd (A 32) x1.toNatClampNeg (S 31))))
abbrev rm_X4_charactersHere : Room := { frames := 4, cells := 0, slots := 0, locals := 82 }
set_option maxHeartbeats 4000000 in
theorem ct_X4_charactersHere (Ev : rb_E) (h : AH) (n : Nat) (o : Nat) (a : Nat → Nat) (S : Nat → Int32) (A : Nat → Nat → Int32) (x1 : Int32) (rv : Int32) (rS : Nat → Int32) (rA : Nat → Nat → Int32) (hM : MD Ev h o a S A) (hf : f_X4_charactersHere S A x1 = some (rv, rS, rA)) : Ct Ev yX4_charactersHere (ws_ yX4_charactersHere cX4_charactersHere 2 (some .boolean)) rm_X4_charactersHere [.ref o, .int x1] h n (pM Ev .boolean o a h n rv rS rA) := by
  refine Ct.of rfl (Nat.le_of_ble_eq_true rfl) fun X C hnm => ?_
  have C : Cx Ev X RX4 cX4_charactersHere 2 (some .boolean) [] := C
  show Wa Ev X rm_X4_charactersHere 2 h n 0 0 (rb_MQ Ev X rm_X4_charactersHere (pM Ev .boolean o a h n rv rS rA)) 0 [(0, .ref o), (1, .int x1)] []
  have hF : mdFr h h o a := mdFr.rf
  rw [f_X4_charactersHere] at hf
  refine rb_aload_n C dX4_charactersHere_0 rfl 0 rfl ?_
  refine rb_get (v := .ref (a 32)) C fl_X4_70_X4 (Or.inl hM.1) rfl dX4_charactersHere_1 ?_
  refine rb_iload_n C dX4_charactersHere_4 rfl 1 rfl ?_
  refine rb_aload_n C dX4_charactersHere_5 rfl 0 rfl ?_
  refine rb_get (v := .int (S 31)) C fl_X4_245_X4 (Or.inl hM.1) rfl dX4_charactersHere_6 ?_
  by_cases c_g : (x1 < 0 ∨ 93 ≤ x1.toNatClampNeg)
  · exact absurd ((if_pos c_g).symm.trans hf) (fun z => by cases z)
  have hf := (if_neg c_g).symm.trans hf
  refine rb_iast (f := (A 32)) C (hM.2.1 32 rfl) (rb_nN c_g) dX4_charactersHere_9 (fun h_1 e1 e2 => ?_)
  have hM : MD Ev h_1 o a S (va_up A 32 (upd (A 32) x1.toNatClampNeg (S 31))) := hM.ast 32 rfl e1 e2
  have hF := hF.ast 32 rfl e2
  have L_l10_2 : ∀ (k_l10_2 : Nat) (S_l10_2 : Nat → Int32) (A_l10_2 : Nat → Nat → Int32) (h_l10_2 : AH), MD Ev h_l10_2 o a S_l10_2 A_l10_2 → mdFr h h_l10_2 o a → f_X4_charactersHere_l10_2 x1 k_l10_2 S_l10_2 A_l10_2 = some (rv, rS, rA) → Wa Ev X rm_X4_charactersHere 2 h_l10_2 n 0 0 (rb_MQ Ev X rm_X4_charactersHere (pM Ev .boolean o a h n rv rS rA)) 10 [(0, .ref o), (1, .int x1)] [] := by
    intro k_l10_2
    induction k_l10_2 with
    | zero => intro  S_l10_2 A_l10_2 h_l10_2 hM hF hf; cases hf
    | succ k_l10_2 ih_l10_2 =>
      intro  S_l10_2 A_l10_2 h_l10_2 hM hF hf
      rw [f_X4_charactersHere_l10_2] at hf
      refine rb_aload_n C dX4_charactersHere_10 rfl 0 rfl ?_
      obtain ⟨v_5, e_4, hf⟩ := rb_bd hf
      refine rb_zVR C mi_X4_here sv_X4_248 (IsC.of (Or.inl hM.1) ck_X4) (ct_X4_here Ev h_l10_2 n o a S_l10_2 A_l10_2  _ hM e_4) (rest := []) rfl rfl (Nat.le_of_ble_eq_true rfl) ⟨Nat.le_of_ble_eq_true rfl, Nat.le_of_ble_eq_true rfl⟩ ⟨Nat.zero_le _, Nat.zero_le _⟩ dX4_charactersHere_11 (fun hn_6 => ?_)
      refine rb_zSR C mi_X4_isCharacter ss_X4_120 (ct_X4_isCharacter Ev h_l10_2 n v_5 _ rfl) (rest := []) rfl rfl (Nat.le_of_ble_eq_true rfl) ⟨Nat.le_of_ble_eq_true rfl, Nat.le_of_ble_eq_true rfl⟩ ⟨Nat.zero_le _, Nat.zero_le _⟩ dX4_charactersHere_14 (fun hn_7 => ?_)
      refine rb_if_eq (tgt := 33) C dX4_charactersHere_17 (by decide) (fun c_8 => ?_) (fun c_8 => ?_)
      · have hf := (if_pos c_8).symm.trans hf
        refine rb_aload_n C dX4_charactersHere_33 rfl 0 rfl ?_
        refine rb_get (v := .ref (a 32)) C fl_X4_70_X4 (Or.inl hM.1) rfl dX4_charactersHere_34 ?_
        refine rb_iload_n C dX4_charactersHere_37 rfl 1 rfl ?_
        refine rb_iconst (v := 1) C dX4_charactersHere_38 rfl ?_
        refine rb_iadd C dX4_charactersHere_39 ?_
        refine rb_aload_n C dX4_charactersHere_40 rfl 0 rfl ?_
        refine rb_get (v := .int (S_l10_2 31)) C fl_X4_245_X4 (Or.inl hM.1) rfl dX4_charactersHere_41 ?_
        by_cases c_g : ((x1 + 1) < 0 ∨ 93 ≤ (x1 + 1).toNatClampNeg)
        · exact absurd ((if_pos c_g).symm.trans hf) (fun z => by cases z)
        have hf := (if_neg c_g).symm.trans hf
        refine rb_iast (f := (A_l10_2 32)) C (hM.2.1 32 rfl) (rb_nN c_g) dX4_charactersHere_44 (fun h_9 e1 e2 => ?_)
        have hM : MD Ev h_9 o a S_l10_2 (va_up A_l10_2 32 (upd (A_l10_2 32) (x1 + 1).toNatClampNeg (S_l10_2 31))) := hM.ast 32 rfl e1 e2
        have hF := hF.ast 32 rfl e2
        refine rb_aload_n C dX4_charactersHere_45 rfl 0 rfl ?_
        refine rb_get (v := .int (S_l10_2 31)) C fl_X4_245_X4 (Or.inl hM.1) rfl dX4_charactersHere_46 ?_
        refine rb_aload_n C dX4_charactersHere_49 rfl 0 rfl ?_
        refine rb_get (v := .ref (a 32)) C fl_X4_70_X4 (Or.inl hM.1) rfl dX4_charactersHere_50 ?_
        refine rb_iload_n C dX4_charactersHere_53 rfl 1 rfl ?_
        by_cases c_g : (x1 < 0 ∨ 93 ≤ x1.toNatClampNeg)
        · exact absurd ((if_pos c_g).symm.trans hf) (fun z => by cases z)
        have hf := (if_neg c_g).symm.trans hf
        refine rb_iald (f := (upd (A_l10_2 32) (x1 + 1).toNatClampNeg (S_l10_2 31))) C (Or.inl (hM.2.1 32 rfl)) (rb_nN c_g) dX4_charactersHere_54 ?_
        refine rb_icmp_le (tgt := 62) C dX4_charactersHere_55 (by decide) (fun c_10 => ?_) (fun c_10 => ?_)
        · have hf := (if_pos c_10).symm.trans hf
          refine rb_iconst (v := 0) C dX4_charactersHere_62 rfl ?_
          cases hf
          exact rb_iret C rfl rfl (Nat.zero_le _) (Nat.zero_le _) dX4_charactersHere_63 ⟨rfl, rfl, hM, hF, rfl⟩
        · have hf := (if_neg c_10).symm.trans hf
          refine rb_iconst (v := 1) C dX4_charactersHere_58 rfl ?_
          refine rb_goto (tgt := 63) C dX4_charactersHere_59 (by decide) ?_
          cases hf
          exact rb_iret C rfl rfl (Nat.zero_le _) (Nat.zero_le _) dX4_charactersHere_63 ⟨rfl, rfl, hM, hF, rfl⟩
      · have hf := (if_neg c_8).symm.trans hf
        refine rb_aload_n C dX4_charactersHere_20 rfl 0 rfl ?_
        refine rb_dup C dX4_charactersHere_21 rfl ?_
        refine rb_get (v := .int (S_l10_2 31)) C fl_X4_245_X4 (Or.inl hM.1) rfl dX4_charactersHere_22 ?_
        refine rb_iconst (v := 1) C dX4_charactersHere_25 rfl ?_
        refine rb_iadd C dX4_charactersHere_26 ?_
        refine rb_put (v := .int ((S_l10_2 31) + 1)) C fw_X4_245_X4 hM.1 rfl rfl (Nat.le_of_ble_eq_true rfl) dX4_charactersHere_27 (fun h_11 e1 e2 => ?_)
        have hM : MD Ev h_11 o a (upd S_l10_2 31 ((S_l10_2 31) + 1)) A_l10_2 := hM.put e1 e2 rfl
        have hF := hF.put e2
        refine rb_goto (tgt := 10) C dX4_charactersHere_30 (by decide) ?_
        exact ih_l10_2 (upd S_l10_2 31 ((S_l10_2 31) + 1)) A_l10_2 h_11 hM hF hf
  exact L_l10_2 4096 S (va_up A 32 (upd (A 32) x1.toNatClampNeg (S 31))) h_1 hM hF hf
def f_X4_one_j68_6 (x2 : Int32) (S : Nat → Int32) (A : Nat → Nat → Int32) (v_3 : Int32) (w0_j68_6 : Int32) : Option (Int32 × (Nat → Int32) × (Nat → Nat → Int32)) := (if w0_j68_6 = 0 then (some (0, S, A)) else if (x2 < 0 ∨ 93 ≤ x2.toNatClampNeg) then none else (some (1, (upd S 31 ((S 31) + 1)), (va_up A 32 (upd (A 32) x2.toNatClampNeg v_3)))))
def f_X4_one (S : Nat → Int32) (A : Nat → Nat → Int32) (x1 : Int32) (x2 : Int32) : Option (Int32 × (Nat → Int32) × (Nat → Nat → Int32)) := ((f_X4_here S A ).bind fun v_3 => (if x1 = 0 then (if (f_X4_signOf v_3) < 0 then (f_X4_one_j68_6 x2 S A v_3 0) else (f_X4_one_j68_6 x2 S A v_3 1)) else (if x1 = 1 then (f_X4_one_j68_6 x2 S A v_3 (f_X4_isOperator v_3)) else (if x1 = 2 then (f_X4_one_j68_6 x2 S A v_3 (f_X4_in v_3 48 57)) else (if x1 = 3 then (f_X4_one_j68_6 x2 S A v_3 (f_X4_isMeaning v_3)) else (f_X4_one_j68_6 x2 S A v_3 (f_X4_isSky v_3)))))))
abbrev rm_X4_one : Room := { frames := 2, cells := 0, slots := 0, locals := 42 }
set_option maxHeartbeats 4000000 in
theorem ct_X4_one (Ev : rb_E) (h : AH) (n : Nat) (o : Nat) (a : Nat → Nat) (S : Nat → Int32) (A : Nat → Nat → Int32) (x1 : Int32) (x2 : Int32) (rv : Int32) (rS : Nat → Int32) (rA : Nat → Nat → Int32) (hM : MD Ev h o a S A) (hf : f_X4_one S A x1 x2 = some (rv, rS, rA)) : Ct Ev yX4_one (ws_ yX4_one cX4_one 5 (some .boolean)) rm_X4_one [.ref o, .int x1, .int x2] h n (pM Ev .boolean o a h n rv rS rA) := by
  refine Ct.of rfl (Nat.le_of_ble_eq_true rfl) fun X C hnm => ?_
  have C : Cx Ev X RX4 cX4_one 5 (some .boolean) [] := C
  show Wa Ev X rm_X4_one 5 h n 0 0 (rb_MQ Ev X rm_X4_one (pM Ev .boolean o a h n rv rS rA)) 0 [(0, .ref o), (1, .int x1), (2, .int x2)] []
  have hF : mdFr h h o a := mdFr.rf
  rw [f_X4_one] at hf
  refine rb_aload_n C dX4_one_0 rfl 0 rfl ?_
  obtain ⟨v_3, e_2, hf⟩ := rb_bd hf
  refine rb_zVR C mi_X4_here sv_X4_248 (IsC.of (Or.inl hM.1) ck_X4) (ct_X4_here Ev h n o a S A  _ hM e_2) (rest := []) rfl rfl (Nat.le_of_ble_eq_true rfl) ⟨Nat.le_of_ble_eq_true rfl, Nat.le_of_ble_eq_true rfl⟩ ⟨Nat.zero_le _, Nat.zero_le _⟩ dX4_one_1 (fun hn_4 => ?_)
  refine rb_istore_n (lv' := [(3, .int v_3), (0, .ref o), (1, .int x1), (2, .int x2)]) C dX4_one_4 rfl (by decide) rfl ?_
  refine rb_iload_n C dX4_one_5 rfl 2 rfl ?_
  have J_j68_6 : ∀ (w0_j68_6 : Int32), f_X4_one_j68_6 x2 S A v_3 w0_j68_6 = some (rv, rS, rA) → Wa Ev X rm_X4_one 5 h n 0 0 (rb_MQ Ev X rm_X4_one (pM Ev .boolean o a h n rv rS rA)) 68 [(0, .ref o), (1, .int x1), (2, .int x2), (3, .int v_3)] [.int w0_j68_6] := by
    intro w0_j68_6 hf
    rw [f_X4_one_j68_6] at hf
    refine rb_istore (lv' := [(4, .int w0_j68_6), (0, .ref o), (1, .int x1), (2, .int x2), (3, .int v_3)]) C dX4_one_68 (by decide) rfl ?_
    refine rb_iload C dX4_one_70 0 rfl ?_
    refine rb_if_ne (tgt := 77) C dX4_one_72 (by decide) (fun c_7 => ?_) (fun c_7 => ?_)
    · have hf := (if_neg c_7).symm.trans hf
      refine rb_aload_n C dX4_one_77 rfl 1 rfl ?_
      refine rb_get (v := .ref (a 32)) C fl_X4_70_X4 (Or.inl hM.1) rfl dX4_one_78 ?_
      refine rb_iload_n C dX4_one_81 rfl 3 rfl ?_
      refine rb_iload_n C dX4_one_82 rfl 4 rfl ?_
      by_cases c_g : (x2 < 0 ∨ 93 ≤ x2.toNatClampNeg)
      · exact absurd ((if_pos c_g).symm.trans hf) (fun z => by cases z)
      have hf := (if_neg c_g).symm.trans hf
      refine rb_iast (f := (A 32)) C (hM.2.1 32 rfl) (rb_nN c_g) dX4_one_83 (fun h_8 e1 e2 => ?_)
      have hM : MD Ev h_8 o a S (va_up A 32 (upd (A 32) x2.toNatClampNeg v_3)) := hM.ast 32 rfl e1 e2
      have hF := hF.ast 32 rfl e2
      refine rb_aload_n C dX4_one_84 rfl 1 rfl ?_
      refine rb_dup C dX4_one_85 rfl ?_
      refine rb_get (v := .int (S 31)) C fl_X4_245_X4 (Or.inl hM.1) rfl dX4_one_86 ?_
      refine rb_iconst (v := 1) C dX4_one_89 rfl ?_
      refine rb_iadd C dX4_one_90 ?_
      refine rb_put (v := .int ((S 31) + 1)) C fw_X4_245_X4 hM.1 rfl rfl (Nat.le_of_ble_eq_true rfl) dX4_one_91 (fun h_9 e1 e2 => ?_)
      have hM : MD Ev h_9 o a (upd S 31 ((S 31) + 1)) (va_up A 32 (upd (A 32) x2.toNatClampNeg v_3)) := hM.put e1 e2 rfl
      have hF := hF.put e2
      refine rb_iconst (v := 1) C dX4_one_94 rfl ?_
      cases hf
      exact rb_iret C rfl rfl (Nat.zero_le _) (Nat.zero_le _) dX4_one_95 ⟨rfl, rfl, hM, hF, rfl⟩
    · have hf := (if_pos c_7).symm.trans hf
      refine rb_iconst (v := 0) C dX4_one_75 rfl ?_
      cases hf
      exact rb_iret C rfl rfl (Nat.zero_le _) (Nat.zero_le _) dX4_one_76 ⟨rfl, rfl, hM, hF, rfl⟩
  refine rb_if_ne (tgt := 24) C dX4_one_6 (by decide) (fun c_5 => ?_) (fun c_5 => ?_)
  · have hf := (if_neg c_5).symm.trans hf
    refine rb_iload_n C dX4_one_24 rfl 2 rfl ?_
    refine rb_iconst (v := 1) C dX4_one_25 rfl ?_
    refine rb_icmp_ne (tgt := 36) C dX4_one_26 (by decide) (fun c_10 => ?_) (fun c_10 => ?_)
    · have hf := (if_neg c_10).symm.trans hf
      refine rb_iload_n C dX4_one_36 rfl 2 rfl ?_
      refine rb_iconst (v := 2) C dX4_one_37 rfl ?_
      refine rb_icmp_ne (tgt := 52) C dX4_one_38 (by decide) (fun c_11 => ?_) (fun c_11 => ?_)
      · have hf := (if_neg c_11).symm.trans hf
        refine rb_iload_n C dX4_one_52 rfl 2 rfl ?_
        refine rb_iconst (v := 3) C dX4_one_53 rfl ?_
        refine rb_icmp_ne (tgt := 64) C dX4_one_54 (by decide) (fun c_12 => ?_) (fun c_12 => ?_)
        · have hf := (if_neg c_12).symm.trans hf
          refine rb_iload_n C dX4_one_64 rfl 0 rfl ?_
          refine rb_zSR C mi_X4_isSky ss_X4_107 (ct_X4_isSky Ev h n v_3 _ rfl) (rest := []) rfl rfl (Nat.le_of_ble_eq_true rfl) ⟨Nat.le_of_ble_eq_true rfl, Nat.le_of_ble_eq_true rfl⟩ ⟨Nat.zero_le _, Nat.zero_le _⟩ dX4_one_65 (fun hn_13 => ?_)
          refine rb_sub [1, 2, 3, 0] rfl ?_
          exact J_j68_6 (f_X4_isSky v_3) hf
        · have hf := (if_pos c_12).symm.trans hf
          refine rb_iload_n C dX4_one_57 rfl 0 rfl ?_
          refine rb_zSR C mi_X4_isMeaning ss_X4_144 (ct_X4_isMeaning Ev h n v_3 _ rfl) (rest := []) rfl rfl (Nat.le_of_ble_eq_true rfl) ⟨Nat.le_of_ble_eq_true rfl, Nat.le_of_ble_eq_true rfl⟩ ⟨Nat.zero_le _, Nat.zero_le _⟩ dX4_one_58 (fun hn_14 => ?_)
          refine rb_goto (tgt := 68) C dX4_one_61 (by decide) ?_
          refine rb_sub [1, 2, 3, 0] rfl ?_
          exact J_j68_6 (f_X4_isMeaning v_3) hf
      · have hf := (if_pos c_11).symm.trans hf
        refine rb_iload_n C dX4_one_41 rfl 0 rfl ?_
        refine rb_bipush (v := 48) C dX4_one_42 rfl ?_
        refine rb_bipush (v := 57) C dX4_one_44 rfl ?_
        refine rb_zSR C mi_X4_in ss_X4_103 (ct_X4_in Ev h n v_3 48 57 _ rfl) (rest := []) rfl rfl (Nat.le_of_ble_eq_true rfl) ⟨Nat.le_of_ble_eq_true rfl, Nat.le_of_ble_eq_true rfl⟩ ⟨Nat.zero_le _, Nat.zero_le _⟩ dX4_one_46 (fun hn_15 => ?_)
        refine rb_goto (tgt := 68) C dX4_one_49 (by decide) ?_
        refine rb_sub [1, 2, 3, 0] rfl ?_
        exact J_j68_6 (f_X4_in v_3 48 57) hf
    · have hf := (if_pos c_10).symm.trans hf
      refine rb_iload_n C dX4_one_29 rfl 0 rfl ?_
      refine rb_zSR C mi_X4_isOperator ss_X4_138 (ct_X4_isOperator Ev h n v_3 _ rfl) (rest := []) rfl rfl (Nat.le_of_ble_eq_true rfl) ⟨Nat.le_of_ble_eq_true rfl, Nat.le_of_ble_eq_true rfl⟩ ⟨Nat.zero_le _, Nat.zero_le _⟩ dX4_one_30 (fun hn_16 => ?_)
      refine rb_goto (tgt := 68) C dX4_one_33 (by decide) ?_
      refine rb_sub [1, 2, 3, 0] rfl ?_
      exact J_j68_6 (f_X4_isOperator v_3) hf
  · have hf := (if_pos c_5).symm.trans hf
    refine rb_iload_n C dX4_one_9 rfl 0 rfl ?_
    refine rb_zSR C mi_X4_signOf ss_X4_99 (ct_X4_signOf Ev h n v_3 _ rfl) (rest := []) rfl rfl (Nat.le_of_ble_eq_true rfl) ⟨Nat.le_of_ble_eq_true rfl, Nat.le_of_ble_eq_true rfl⟩ ⟨Nat.zero_le _, Nat.zero_le _⟩ dX4_one_10 (fun hn_17 => ?_)
    refine rb_if_lt (tgt := 20) C dX4_one_13 (by decide) (fun c_18 => ?_) (fun c_18 => ?_)
    · have hf := (if_pos c_18).symm.trans hf
      refine rb_iconst (v := 0) C dX4_one_20 rfl ?_
      refine rb_goto (tgt := 68) C dX4_one_21 (by decide) ?_
      refine rb_sub [1, 2, 3, 0] rfl ?_
      exact J_j68_6 0 hf
    · have hf := (if_neg c_18).symm.trans hf
      refine rb_iconst (v := 1) C dX4_one_16 rfl ?_
      refine rb_goto (tgt := 68) C dX4_one_17 (by decide) ?_
      refine rb_sub [1, 2, 3, 0] rfl ?_
      exact J_j68_6 1 hf
def f_X4_puts_l10_2 (x2 : Int32) : Nat → Int32 → Int32 → (Nat → Int32) → (Nat → Nat → Int32) → Option (Int32 × (Nat → Int32) × (Nat → Nat → Int32))
  | 0, _, _, _, _ => none
  | k_l10_2 + 1, y3_l10_2, y4_l10_2, S_l10_2, A_l10_2 => (if x2 ≤ y4_l10_2 then (some (y3_l10_2, S_l10_2, A_l10_2)) else (if (S_l10_2 8) = 0 then if (y4_l10_2 < 0 ∨ 60 ≤ y4_l10_2.toNatClampNeg) then none else ((f_X4_put S_l10_2 A_l10_2 ((((A_l10_2 12) y4_l10_2.toNatClampNeg).toUInt32 % 65536).toInt32)).bind fun (v_11, S_8, A_9) => ((f_X4_puts_l10_2 x2 k_l10_2) v_11 (y4_l10_2 + 1) S_8 A_9)) else (some (y3_l10_2, S_l10_2, A_l10_2))))
def f_X4_puts (S : Nat → Int32) (A : Nat → Nat → Int32) (x1 : Int32) (x2 : Int32) : Option (Int32 × (Nat → Int32) × (Nat → Nat → Int32)) := (f_X4_puts_l10_2 x2 4096 0 x1 (upd S 8 0) A)
abbrev rm_X4_puts : Room := { frames := 5, cells := 0, slots := 0, locals := 105 }
set_option maxHeartbeats 4000000 in
theorem ct_X4_puts (Ev : rb_E) (h : AH) (n : Nat) (o : Nat) (a : Nat → Nat) (S : Nat → Int32) (A : Nat → Nat → Int32) (x1 : Int32) (x2 : Int32) (rv : Int32) (rS : Nat → Int32) (rA : Nat → Nat → Int32) (hM : MD Ev h o a S A) (hf : f_X4_puts S A x1 x2 = some (rv, rS, rA)) : Ct Ev yX4_puts (ws_ yX4_puts cX4_puts 5 (some .int)) rm_X4_puts [.ref o, .int x1, .int x2] h n (pM Ev .int o a h n rv rS rA) := by
  refine Ct.of rfl (Nat.le_of_ble_eq_true rfl) fun X C hnm => ?_
  have C : Cx Ev X RX4 cX4_puts 5 (some .int) [] := C
  show Wa Ev X rm_X4_puts 5 h n 0 0 (rb_MQ Ev X rm_X4_puts (pM Ev .int o a h n rv rS rA)) 0 [(0, .ref o), (1, .int x1), (2, .int x2)] []
  have hF : mdFr h h o a := mdFr.rf
  rw [f_X4_puts] at hf
  refine rb_iconst (v := 0) C dX4_puts_0 rfl ?_
  refine rb_istore_n (lv' := [(3, .int 0), (0, .ref o), (1, .int x1), (2, .int x2)]) C dX4_puts_1 rfl (by decide) rfl ?_
  refine rb_aload_n C dX4_puts_2 rfl 1 rfl ?_
  refine rb_iconst (v := 0) C dX4_puts_3 rfl ?_
  refine rb_put (v := .int 0) C fw_X4_73_X4 hM.1 rfl rfl (Nat.le_of_ble_eq_true rfl) dX4_puts_4 (fun h_1 e1 e2 => ?_)
  have hM : MD Ev h_1 o a (upd S 8 0) A := hM.put e1 e2 rfl
  have hF := hF.put e2
  refine rb_iload_n C dX4_puts_7 rfl 2 rfl ?_
  refine rb_istore (lv' := [(4, .int x1), (3, .int 0), (0, .ref o), (1, .int x1), (2, .int x2)]) C dX4_puts_8 (by decide) rfl ?_
  have L_l10_2 : ∀ (k_l10_2 : Nat) (y3_l10_2 : Int32) (y4_l10_2 : Int32) (S_l10_2 : Nat → Int32) (A_l10_2 : Nat → Nat → Int32) (h_l10_2 : AH), MD Ev h_l10_2 o a S_l10_2 A_l10_2 → mdFr h h_l10_2 o a → f_X4_puts_l10_2 x2 k_l10_2 y3_l10_2 y4_l10_2 S_l10_2 A_l10_2 = some (rv, rS, rA) → Wa Ev X rm_X4_puts 5 h_l10_2 n 0 0 (rb_MQ Ev X rm_X4_puts (pM Ev .int o a h n rv rS rA)) 10 [(0, .ref o), (1, .int x1), (2, .int x2), (3, .int y3_l10_2), (4, .int y4_l10_2)] [] := by
    intro k_l10_2
    induction k_l10_2 with
    | zero => intro y3_l10_2 y4_l10_2 S_l10_2 A_l10_2 h_l10_2 hM hF hf; cases hf
    | succ k_l10_2 ih_l10_2 =>
      intro y3_l10_2 y4_l10_2 S_l10_2 A_l10_2 h_l10_2 hM hF hf
      rw [f_X4_puts_l10_2] at hf
      refine rb_iload C dX4_puts_10 4 rfl ?_
      refine rb_iload_n C dX4_puts_12 rfl 2 rfl ?_
      refine rb_icmp_ge (tgt := 42) C dX4_puts_13 (by decide) (fun c_3 => ?_) (fun c_3 => ?_)
      · have hf := (if_pos c_3).symm.trans hf
        refine rb_iload_n C dX4_puts_42 rfl 3 rfl ?_
        cases hf
        exact rb_iret C rfl rfl (Nat.zero_le _) (Nat.zero_le _) dX4_puts_43 ⟨rfl, rfl, hM, hF, rfl⟩
      · have hf := (if_neg c_3).symm.trans hf
        refine rb_aload_n C dX4_puts_16 rfl 0 rfl ?_
        refine rb_get (v := .int (S_l10_2 8)) C fl_X4_73_X4 (Or.inl hM.1) rfl dX4_puts_17 ?_
        refine rb_if_ne (tgt := 42) C dX4_puts_20 (by decide) (fun c_4 => ?_) (fun c_4 => ?_)
        · have hf := (if_neg c_4).symm.trans hf
          refine rb_iload_n C dX4_puts_42 rfl 3 rfl ?_
          cases hf
          exact rb_iret C rfl rfl (Nat.zero_le _) (Nat.zero_le _) dX4_puts_43 ⟨rfl, rfl, hM, hF, rfl⟩
        · have hf := (if_pos c_4).symm.trans hf
          refine rb_aload_n C dX4_puts_23 rfl 0 rfl ?_
          refine rb_aload_n C dX4_puts_24 rfl 0 rfl ?_
          refine rb_get (v := .ref (a 12)) C fl_X4_22_X4 (Or.inl hM.1) rfl dX4_puts_25 ?_
          refine rb_iload C dX4_puts_28 4 rfl ?_
          by_cases c_g : (y4_l10_2 < 0 ∨ 60 ≤ y4_l10_2.toNatClampNeg)
          · exact absurd ((if_pos c_g).symm.trans hf) (fun z => by cases z)
          have hf := (if_neg c_g).symm.trans hf
          refine rb_iald (f := (A_l10_2 12)) C (Or.inl (hM.2.1 12 rfl)) (rb_nN c_g) dX4_puts_30 ?_
          refine rb_i2c C dX4_puts_31 rfl ?_
          have hc_5 : narrow .char (.int (((A_l10_2 12) y4_l10_2.toNatClampNeg).toUInt32 % 65536).toInt32) = .int (((A_l10_2 12) y4_l10_2.toNatClampNeg).toUInt32 % 65536).toInt32 := pk_nc ((A_l10_2 12) y4_l10_2.toNatClampNeg)
          obtain ⟨⟨v_11, S_8, A_9⟩, e_7, hf⟩ := rb_bd hf
          refine rb_zVM C mi_X4_put sv_X4_292 (IsC.of (Or.inl hM.1) ck_X4) (ct_X4_put Ev h_l10_2 n o a S_l10_2 A_l10_2 ((((A_l10_2 12) y4_l10_2.toNatClampNeg).toUInt32 % 65536).toInt32) _ _ _ hM e_7) (rest := []) rfl rfl (Nat.le_of_ble_eq_true rfl) ⟨Nat.le_of_ble_eq_true rfl, Nat.le_of_ble_eq_true rfl⟩ ⟨Nat.zero_le _, Nat.zero_le _⟩ dX4_puts_32 (fun h_10 hM hF1 hn_12 => ?_)
          have hF := hF.tr hF1
          refine rb_istore_n (lv' := [(3, .int v_11), (0, .ref o), (1, .int x1), (2, .int x2), (4, .int y4_l10_2)]) C dX4_puts_35 rfl (by decide) rfl ?_
          refine rb_iinc (v := (y4_l10_2 + 1)) (lv' := [(4, .int (y4_l10_2 + 1)), (3, .int v_11), (0, .ref o), (1, .int x1), (2, .int x2)]) C dX4_puts_36 (k := 4) rfl rfl (by decide) rfl ?_
          refine rb_goto (tgt := 10) C dX4_puts_39 (by decide) ?_
          refine rb_sub [2, 3, 4, 1, 0] rfl ?_
          exact ih_l10_2 v_11 (y4_l10_2 + 1) S_8 A_9 h_10 hM hF hf
  refine rb_sub [2, 3, 4, 1, 0] rfl ?_
  exact L_l10_2 4096 0 x1 (upd S 8 0) A h_1 hM hF hf
def f_X4_carries (S : Nat → Int32) (A : Nat → Nat → Int32) (x1 : Int32) : Option (Int32 × (Nat → Int32) × (Nat → Nat → Int32)) := if ((x1 + 1) < 0 ∨ 93 ≤ (x1 + 1).toNatClampNeg) then none else if ((x1 + 2) < 0 ∨ 93 ≤ (x1 + 2).toNatClampNeg) then none else if (x1 < 0 ∨ 93 ≤ x1.toNatClampNeg) then none else (if ((A 32) x1.toNatClampNeg) = 0 then ((f_X4_puts S A ((A 32) (x1 + 1).toNatClampNeg) ((A 32) (x1 + 2).toNatClampNeg)).bind fun (v_7, S_4, A_5) => (some (v_7, S_4, A_5))) else (if ((A 32) x1.toNatClampNeg) = 1 then ((f_X4_erase S A ).bind fun (v_15, S_12, A_13) => (some (v_15, S_12, A_13))) else (if ((A 32) x1.toNatClampNeg) = 2 then ((f_X4_clear S A ).bind fun (v_23, S_20, A_21) => (some (v_23, S_20, A_21))) else (if ((A 32) x1.toNatClampNeg) = 3 then ((f_X4_setColour S A ((((A 32) (x1 + 1).toNatClampNeg).toUInt32 % 65536).toInt32) (((A 32) (x1 + 2).toNatClampNeg) - 48)).bind fun (v_32, S_29, A_30) => (some (v_32, S_29, A_30))) else (if ((A 32) x1.toNatClampNeg) = 4 then ((f_X4_setMeaning S A ((((A 32) (x1 + 1).toNatClampNeg).toUInt32 % 65536).toInt32) ((((A 32) (x1 + 2).toNatClampNeg).toUInt32 % 65536).toInt32)).bind fun (v_42, S_39, A_40) => (some (v_42, S_39, A_40))) else (if ((A 32) x1.toNatClampNeg) = 5 then ((f_X4_turnStorm S A (((A 32) (x1 + 1).toNatClampNeg) - 48)).bind fun (v_50, S_47, A_48) => (some (v_50, S_47, A_48))) else ((f_X4_keep S A ((((A 32) (x1 + 1).toNatClampNeg).toUInt32 % 65536).toInt32)).bind fun (v_58, S_55, A_56) => (some (v_58, S_55, A_56)))))))))
abbrev rm_X4_carries : Room := { frames := 38, cells := 0, slots := 0, locals := 2047 }
set_option maxHeartbeats 4000000 in
theorem ct_X4_carries (Ev : rb_E) (h : AH) (n : Nat) (o : Nat) (a : Nat → Nat) (S : Nat → Int32) (A : Nat → Nat → Int32) (x1 : Int32) (rv : Int32) (rS : Nat → Int32) (rA : Nat → Nat → Int32) (hM : MD Ev h o a S A) (hf : f_X4_carries S A x1 = some (rv, rS, rA)) : Ct Ev yX4_carries (ws_ yX4_carries cX4_carries 4 (some .int)) rm_X4_carries [.ref o, .int x1] h n (pM Ev .int o a h n rv rS rA) := by
  refine Ct.of rfl (Nat.le_of_ble_eq_true rfl) fun X C hnm => ?_
  have C : Cx Ev X RX4 cX4_carries 4 (some .int) [] := C
  show Wa Ev X rm_X4_carries 4 h n 0 0 (rb_MQ Ev X rm_X4_carries (pM Ev .int o a h n rv rS rA)) 0 [(0, .ref o), (1, .int x1)] []
  have hF : mdFr h h o a := mdFr.rf
  rw [f_X4_carries] at hf
  refine rb_aload_n C dX4_carries_0 rfl 0 rfl ?_
  refine rb_get (v := .ref (a 32)) C fl_X4_70_X4 (Or.inl hM.1) rfl dX4_carries_1 ?_
  refine rb_iload_n C dX4_carries_4 rfl 1 rfl ?_
  refine rb_iconst (v := 1) C dX4_carries_5 rfl ?_
  refine rb_iadd C dX4_carries_6 ?_
  by_cases c_g : ((x1 + 1) < 0 ∨ 93 ≤ (x1 + 1).toNatClampNeg)
  · exact absurd ((if_pos c_g).symm.trans hf) (fun z => by cases z)
  have hf := (if_neg c_g).symm.trans hf
  refine rb_iald (f := (A 32)) C (Or.inl (hM.2.1 32 rfl)) (rb_nN c_g) dX4_carries_7 ?_
  refine rb_istore_n (lv' := [(2, .int ((A 32) (x1 + 1).toNatClampNeg)), (0, .ref o), (1, .int x1)]) C dX4_carries_8 rfl (by decide) rfl ?_
  refine rb_aload_n C dX4_carries_9 rfl 1 rfl ?_
  refine rb_get (v := .ref (a 32)) C fl_X4_70_X4 (Or.inl hM.1) rfl dX4_carries_10 ?_
  refine rb_iload_n C dX4_carries_13 rfl 2 rfl ?_
  refine rb_iconst (v := 2) C dX4_carries_14 rfl ?_
  refine rb_iadd C dX4_carries_15 ?_
  by_cases c_g : ((x1 + 2) < 0 ∨ 93 ≤ (x1 + 2).toNatClampNeg)
  · exact absurd ((if_pos c_g).symm.trans hf) (fun z => by cases z)
  have hf := (if_neg c_g).symm.trans hf
  refine rb_iald (f := (A 32)) C (Or.inl (hM.2.1 32 rfl)) (rb_nN c_g) dX4_carries_16 ?_
  refine rb_istore_n (lv' := [(3, .int ((A 32) (x1 + 2).toNatClampNeg)), (2, .int ((A 32) (x1 + 1).toNatClampNeg)), (0, .ref o), (1, .int x1)]) C dX4_carries_17 rfl (by decide) rfl ?_
  refine rb_aload_n C dX4_carries_18 rfl 2 rfl ?_
  refine rb_get (v := .ref (a 32)) C fl_X4_70_X4 (Or.inl hM.1) rfl dX4_carries_19 ?_
  refine rb_iload_n C dX4_carries_22 rfl 3 rfl ?_
  by_cases c_g : (x1 < 0 ∨ 93 ≤ x1.toNatClampNeg)
  · exact absurd ((if_pos c_g).symm.trans hf) (fun z => by cases z)
  have hf := (if_neg c_g).symm.trans hf
  refine rb_iald (f := (A 32)) C (Or.inl (hM.2.1 32 rfl)) (rb_nN c_g) dX4_carries_23 ?_
  by_cases c_1 : ((A 32) x1.toNatClampNeg) = 0
  · have hf := (if_pos c_1).symm.trans hf
    refine rb_top (.int 0) (by rw [c_1]) ?_
    refine rb_tableIn (tgt := 64) C dX4_carries_24 (by decide) (by decide) (off := 40) (by decide) (by decide) ?_
    refine rb_aload_n C dX4_carries_64 rfl 2 rfl ?_
    refine rb_iload_n C dX4_carries_65 rfl 1 rfl ?_
    refine rb_iload_n C dX4_carries_66 rfl 0 rfl ?_
    obtain ⟨⟨v_7, S_4, A_5⟩, e_3, hf⟩ := rb_bd hf
    refine rb_zVM C mi_X4_puts sv_X4_296 (IsC.of (Or.inl hM.1) ck_X4) (ct_X4_puts Ev h n o a S A ((A 32) (x1 + 1).toNatClampNeg) ((A 32) (x1 + 2).toNatClampNeg) _ _ _ hM e_3) (rest := []) rfl rfl (Nat.le_of_ble_eq_true rfl) ⟨Nat.le_of_ble_eq_true rfl, Nat.le_of_ble_eq_true rfl⟩ ⟨Nat.zero_le _, Nat.zero_le _⟩ dX4_carries_67 (fun h_6 hM hF1 hn_8 => ?_)
    have hF := hF.tr hF1
    cases hf
    exact rb_iret C rfl rfl (Nat.zero_le _) (Nat.zero_le _) dX4_carries_70 ⟨rfl, rfl, hM, hF, rfl⟩
  have hf := (if_neg c_1).symm.trans hf
  by_cases c_9 : ((A 32) x1.toNatClampNeg) = 1
  · have hf := (if_pos c_9).symm.trans hf
    refine rb_top (.int 1) (by rw [c_9]) ?_
    refine rb_tableIn (tgt := 71) C dX4_carries_24 (by decide) (by decide) (off := 47) (by decide) (by decide) ?_
    refine rb_aload_n C dX4_carries_71 rfl 2 rfl ?_
    obtain ⟨⟨v_15, S_12, A_13⟩, e_11, hf⟩ := rb_bd hf
    refine rb_zVM C mi_X4_erase sv_X4_299 (IsC.of (Or.inl hM.1) ck_X4) (ct_X4_erase Ev h n o a S A  _ _ _ hM e_11) (rest := []) rfl rfl (Nat.le_of_ble_eq_true rfl) ⟨Nat.le_of_ble_eq_true rfl, Nat.le_of_ble_eq_true rfl⟩ ⟨Nat.zero_le _, Nat.zero_le _⟩ dX4_carries_72 (fun h_14 hM hF1 hn_16 => ?_)
    have hF := hF.tr hF1
    cases hf
    exact rb_iret C rfl rfl (Nat.zero_le _) (Nat.zero_le _) dX4_carries_75 ⟨rfl, rfl, hM, hF, rfl⟩
  have hf := (if_neg c_9).symm.trans hf
  by_cases c_17 : ((A 32) x1.toNatClampNeg) = 2
  · have hf := (if_pos c_17).symm.trans hf
    refine rb_top (.int 2) (by rw [c_17]) ?_
    refine rb_tableIn (tgt := 76) C dX4_carries_24 (by decide) (by decide) (off := 52) (by decide) (by decide) ?_
    refine rb_aload_n C dX4_carries_76 rfl 2 rfl ?_
    obtain ⟨⟨v_23, S_20, A_21⟩, e_19, hf⟩ := rb_bd hf
    refine rb_zVM C mi_X4_clear sv_X4_303 (IsC.of (Or.inl hM.1) ck_X4) (ct_X4_clear Ev h n o a S A  _ _ _ hM e_19) (rest := []) rfl rfl (Nat.le_of_ble_eq_true rfl) ⟨Nat.le_of_ble_eq_true rfl, Nat.le_of_ble_eq_true rfl⟩ ⟨Nat.zero_le _, Nat.zero_le _⟩ dX4_carries_77 (fun h_22 hM hF1 hn_24 => ?_)
    have hF := hF.tr hF1
    cases hf
    exact rb_iret C rfl rfl (Nat.zero_le _) (Nat.zero_le _) dX4_carries_80 ⟨rfl, rfl, hM, hF, rfl⟩
  have hf := (if_neg c_17).symm.trans hf
  by_cases c_25 : ((A 32) x1.toNatClampNeg) = 3
  · have hf := (if_pos c_25).symm.trans hf
    refine rb_top (.int 3) (by rw [c_25]) ?_
    refine rb_tableIn (tgt := 81) C dX4_carries_24 (by decide) (by decide) (off := 57) (by decide) (by decide) ?_
    refine rb_aload_n C dX4_carries_81 rfl 2 rfl ?_
    refine rb_iload_n C dX4_carries_82 rfl 1 rfl ?_
    refine rb_i2c C dX4_carries_83 rfl ?_
    have hc_26 : narrow .char (.int (((A 32) (x1 + 1).toNatClampNeg).toUInt32 % 65536).toInt32) = .int (((A 32) (x1 + 1).toNatClampNeg).toUInt32 % 65536).toInt32 := pk_nc ((A 32) (x1 + 1).toNatClampNeg)
    refine rb_iload_n C dX4_carries_84 rfl 0 rfl ?_
    refine rb_bipush (v := 48) C dX4_carries_85 rfl ?_
    refine rb_isub C dX4_carries_87 ?_
    obtain ⟨⟨v_32, S_29, A_30⟩, e_28, hf⟩ := rb_bd hf
    refine rb_zVM C mi_X4_setColour sv_X4_306 (IsC.of (Or.inl hM.1) ck_X4) (ct_X4_setColour Ev h n o a S A ((((A 32) (x1 + 1).toNatClampNeg).toUInt32 % 65536).toInt32) (((A 32) (x1 + 2).toNatClampNeg) - 48) _ _ _ hM e_28) (rest := []) rfl rfl (Nat.le_of_ble_eq_true rfl) ⟨Nat.le_of_ble_eq_true rfl, Nat.le_of_ble_eq_true rfl⟩ ⟨Nat.zero_le _, Nat.zero_le _⟩ dX4_carries_88 (fun h_31 hM hF1 hn_33 => ?_)
    have hF := hF.tr hF1
    cases hf
    exact rb_iret C rfl rfl (Nat.zero_le _) (Nat.zero_le _) dX4_carries_91 ⟨rfl, rfl, hM, hF, rfl⟩
  have hf := (if_neg c_25).symm.trans hf
  by_cases c_34 : ((A 32) x1.toNatClampNeg) = 4
  · have hf := (if_pos c_34).symm.trans hf
    refine rb_top (.int 4) (by rw [c_34]) ?_
    refine rb_tableIn (tgt := 92) C dX4_carries_24 (by decide) (by decide) (off := 68) (by decide) (by decide) ?_
    refine rb_aload_n C dX4_carries_92 rfl 2 rfl ?_
    refine rb_iload_n C dX4_carries_93 rfl 1 rfl ?_
    refine rb_i2c C dX4_carries_94 rfl ?_
    have hc_35 : narrow .char (.int (((A 32) (x1 + 1).toNatClampNeg).toUInt32 % 65536).toInt32) = .int (((A 32) (x1 + 1).toNatClampNeg).toUInt32 % 65536).toInt32 := pk_nc ((A 32) (x1 + 1).toNatClampNeg)
    refine rb_iload_n C dX4_carries_95 rfl 0 rfl ?_
    refine rb_i2c C dX4_carries_96 rfl ?_
    have hc_36 : narrow .char (.int (((A 32) (x1 + 2).toNatClampNeg).toUInt32 % 65536).toInt32) = .int (((A 32) (x1 + 2).toNatClampNeg).toUInt32 % 65536).toInt32 := pk_nc ((A 32) (x1 + 2).toNatClampNeg)
    obtain ⟨⟨v_42, S_39, A_40⟩, e_38, hf⟩ := rb_bd hf
    refine rb_zVM C mi_X4_setMeaning sv_X4_310 (IsC.of (Or.inl hM.1) ck_X4) (ct_X4_setMeaning Ev h n o a S A ((((A 32) (x1 + 1).toNatClampNeg).toUInt32 % 65536).toInt32) ((((A 32) (x1 + 2).toNatClampNeg).toUInt32 % 65536).toInt32) _ _ _ hM e_38) (rest := []) rfl rfl (Nat.le_of_ble_eq_true rfl) ⟨Nat.le_of_ble_eq_true rfl, Nat.le_of_ble_eq_true rfl⟩ ⟨Nat.zero_le _, Nat.zero_le _⟩ dX4_carries_97 (fun h_41 hM hF1 hn_43 => ?_)
    have hF := hF.tr hF1
    cases hf
    exact rb_iret C rfl rfl (Nat.zero_le _) (Nat.zero_le _) dX4_carries_100 ⟨rfl, rfl, hM, hF, rfl⟩
  have hf := (if_neg c_34).symm.trans hf
  by_cases c_44 : ((A 32) x1.toNatClampNeg) = 5
  · have hf := (if_pos c_44).symm.trans hf
    refine rb_top (.int 5) (by rw [c_44]) ?_
    refine rb_tableIn (tgt := 101) C dX4_carries_24 (by decide) (by decide) (off := 77) (by decide) (by decide) ?_
    refine rb_aload_n C dX4_carries_101 rfl 2 rfl ?_
    refine rb_iload_n C dX4_carries_102 rfl 1 rfl ?_
    refine rb_bipush (v := 48) C dX4_carries_103 rfl ?_
    refine rb_isub C dX4_carries_105 ?_
    obtain ⟨⟨v_50, S_47, A_48⟩, e_46, hf⟩ := rb_bd hf
    refine rb_zVM C mi_X4_turnStorm sv_X4_314 (IsC.of (Or.inl hM.1) ck_X4) (ct_X4_turnStorm Ev h n o a S A (((A 32) (x1 + 1).toNatClampNeg) - 48) _ _ _ hM e_46) (rest := []) rfl rfl (Nat.le_of_ble_eq_true rfl) ⟨Nat.le_of_ble_eq_true rfl, Nat.le_of_ble_eq_true rfl⟩ ⟨Nat.zero_le _, Nat.zero_le _⟩ dX4_carries_106 (fun h_49 hM hF1 hn_51 => ?_)
    have hF := hF.tr hF1
    cases hf
    exact rb_iret C rfl rfl (Nat.zero_le _) (Nat.zero_le _) dX4_carries_109 ⟨rfl, rfl, hM, hF, rfl⟩
  have hf := (if_neg c_44).symm.trans hf
  refine rb_tableOut (tgt := 110) C dX4_carries_24 (by have z0 := lv_neT (k := 0) (a := 0) c_1 (by decide); have z1 := lv_neT (k := 1) (a := 1) c_9 (by decide); have z2 := lv_neT (k := 2) (a := 2) c_17 (by decide); have z3 := lv_neT (k := 3) (a := 3) c_25 (by decide); have z4 := lv_neT (k := 4) (a := 4) c_34 (by decide); have z5 := lv_neT (k := 5) (a := 5) c_44 (by decide); omega) (by decide) ?_
  refine rb_aload_n C dX4_carries_110 rfl 2 rfl ?_
  refine rb_iload_n C dX4_carries_111 rfl 1 rfl ?_
  refine rb_i2c C dX4_carries_112 rfl ?_
  have hc_52 : narrow .char (.int (((A 32) (x1 + 1).toNatClampNeg).toUInt32 % 65536).toInt32) = .int (((A 32) (x1 + 1).toNatClampNeg).toUInt32 % 65536).toInt32 := pk_nc ((A 32) (x1 + 1).toNatClampNeg)
  obtain ⟨⟨v_58, S_55, A_56⟩, e_54, hf⟩ := rb_bd hf
  refine rb_zVM C mi_X4_keep sv_X4_317 (IsC.of (Or.inl hM.1) ck_X4) (ct_X4_keep Ev h n o a S A ((((A 32) (x1 + 1).toNatClampNeg).toUInt32 % 65536).toInt32) _ _ _ hM e_54) (rest := []) rfl rfl (Nat.le_of_ble_eq_true rfl) ⟨Nat.le_of_ble_eq_true rfl, Nat.le_of_ble_eq_true rfl⟩ ⟨Nat.zero_le _, Nat.zero_le _⟩ dX4_carries_113 (fun h_57 hM hF1 hn_59 => ?_)
  have hF := hF.tr hF1
  cases hf
  exact rb_iret C rfl rfl (Nat.zero_le _) (Nat.zero_le _) dX4_carries_116 ⟨rfl, rfl, hM, hF, rfl⟩
def f_X4_deniesText_j15_2 (x1 : Int32) (S : Nat → Int32) (A : Nat → Nat → Int32) (w0_j15_2 : Int32) : Option (Int32 × (Nat → Int32) × (Nat → Nat → Int32)) := ((f_X4_denies S A 2 4 x1).bind fun (v_8, S_5, A_6) => (some (0, (upd S_5 11 w0_j15_2), A_6)))
def f_X4_deniesText (S : Nat → Int32) (A : Nat → Nat → Int32) (x1 : Int32) : Option (Int32 × (Nat → Int32) × (Nat → Nat → Int32)) := (if (S 7) = 0 then (f_X4_deniesText_j15_2 x1 S A 5) else (f_X4_deniesText_j15_2 x1 S A (S 9)))
abbrev rm_X4_deniesText : Room := { frames := 1, cells := 0, slots := 0, locals := 23 }
set_option maxHeartbeats 4000000 in
theorem ct_X4_deniesText (Ev : rb_E) (h : AH) (n : Nat) (o : Nat) (a : Nat → Nat) (S : Nat → Int32) (A : Nat → Nat → Int32) (x1 : Int32) (rv : Int32) (rS : Nat → Int32) (rA : Nat → Nat → Int32) (hM : MD Ev h o a S A) (hf : f_X4_deniesText S A x1 = some (rv, rS, rA)) : Ct Ev yX4_deniesText (ws_ yX4_deniesText cX4_deniesText 3 (some .int)) rm_X4_deniesText [.ref o, .int x1] h n (pM Ev .int o a h n rv rS rA) := by
  refine Ct.of rfl (Nat.le_of_ble_eq_true rfl) fun X C hnm => ?_
  have C : Cx Ev X RX4 cX4_deniesText 3 (some .int) [] := C
  show Wa Ev X rm_X4_deniesText 3 h n 0 0 (rb_MQ Ev X rm_X4_deniesText (pM Ev .int o a h n rv rS rA)) 0 [(0, .ref o), (1, .int x1)] []
  have hF : mdFr h h o a := mdFr.rf
  rw [f_X4_deniesText] at hf
  refine rb_aload_n C dX4_deniesText_0 rfl 0 rfl ?_
  refine rb_get (v := .int (S 7)) C fl_X4_76_X4 (Or.inl hM.1) rfl dX4_deniesText_1 ?_
  have J_j15_2 : ∀ (w0_j15_2 : Int32), f_X4_deniesText_j15_2 x1 S A w0_j15_2 = some (rv, rS, rA) → Wa Ev X rm_X4_deniesText 3 h n 0 0 (rb_MQ Ev X rm_X4_deniesText (pM Ev .int o a h n rv rS rA)) 15 [(0, .ref o), (1, .int x1)] [.int w0_j15_2] := by
    intro w0_j15_2 hf
    rw [f_X4_deniesText_j15_2] at hf
    refine rb_istore_n (lv' := [(2, .int w0_j15_2), (0, .ref o), (1, .int x1)]) C dX4_deniesText_15 rfl (by decide) rfl ?_
    refine rb_aload_n C dX4_deniesText_16 rfl 1 rfl ?_
    refine rb_iconst (v := 2) C dX4_deniesText_17 rfl ?_
    refine rb_iconst (v := 4) C dX4_deniesText_18 rfl ?_
    refine rb_iload_n C dX4_deniesText_19 rfl 2 rfl ?_
    obtain ⟨⟨v_8, S_5, A_6⟩, e_4, hf⟩ := rb_bd hf
    refine rb_zVM C mi_X4_denies sv_X4_126 (IsC.of (Or.inl hM.1) ck_X4) (ct_X4_denies Ev h n o a S A 2 4 x1 _ _ _ hM e_4) (rest := []) rfl rfl (Nat.le_of_ble_eq_true rfl) ⟨Nat.le_of_ble_eq_true rfl, Nat.le_of_ble_eq_true rfl⟩ ⟨Nat.zero_le _, Nat.zero_le _⟩ dX4_deniesText_20 (fun h_7 hM hF1 hn_9 => ?_)
    have hF := hF.tr hF1
    refine rb_pop C dX4_deniesText_23 rfl ?_
    refine rb_aload_n C dX4_deniesText_24 rfl 1 rfl ?_
    refine rb_iload_n C dX4_deniesText_25 rfl 0 rfl ?_
    refine rb_put (v := .int w0_j15_2) C fw_X4_86_X4 hM.1 rfl rfl (Nat.le_of_ble_eq_true rfl) dX4_deniesText_26 (fun h_10 e1 e2 => ?_)
    have hM : MD Ev h_10 o a (upd S_5 11 w0_j15_2) A_6 := hM.put e1 e2 rfl
    have hF := hF.put e2
    refine rb_iconst (v := 0) C dX4_deniesText_29 rfl ?_
    cases hf
    exact rb_iret C rfl rfl (Nat.zero_le _) (Nat.zero_le _) dX4_deniesText_30 ⟨rfl, rfl, hM, hF, rfl⟩
  refine rb_if_eq (tgt := 14) C dX4_deniesText_4 (by decide) (fun c_1 => ?_) (fun c_1 => ?_)
  · have hf := (if_pos c_1).symm.trans hf
    refine rb_iconst (v := 5) C dX4_deniesText_14 rfl ?_
    exact J_j15_2 5 hf
  · have hf := (if_neg c_1).symm.trans hf
    refine rb_aload_n C dX4_deniesText_7 rfl 0 rfl ?_
    refine rb_get (v := .int (S 9)) C fl_X4_80_X4 (Or.inl hM.1) rfl dX4_deniesText_8 ?_
    refine rb_goto (tgt := 15) C dX4_deniesText_11 (by decide) ?_
    exact J_j15_2 (S 9) hf
def f_X4_faultPosition_j13_2 (S : Nat → Int32) (A : Nat → Nat → Int32) (w0_j13_2 : Int32) : Option (Int32 × (Nat → Int32) × (Nat → Nat → Int32)) := ((f_X4_fails S A w0_j13_2).bind fun (v_8, S_5, A_6) => (if v_8 = 0 then (some ((S_5 14), S_5, A_6)) else (some (0, S_5, A_6))))
def f_X4_faultPosition (S : Nat → Int32) (A : Nat → Nat → Int32) : Option (Int32 × (Nat → Int32) × (Nat → Nat → Int32)) := (if 0 ≤ (S 14) then (f_X4_faultPosition_j13_2 S A 0) else (f_X4_faultPosition_j13_2 S A 1))
abbrev rm_X4_faultPosition : Room := { frames := 1, cells := 0, slots := 0, locals := 21 }
set_option maxHeartbeats 4000000 in
theorem ct_X4_faultPosition (Ev : rb_E) (h : AH) (n : Nat) (o : Nat) (a : Nat → Nat) (S : Nat → Int32) (A : Nat → Nat → Int32)  (rv : Int32) (rS : Nat → Int32) (rA : Nat → Nat → Int32) (hM : MD Ev h o a S A) (hf : f_X4_faultPosition S A = some (rv, rS, rA)) : Ct Ev yX4_faultPosition (ws_ yX4_faultPosition cX4_faultPosition 1 (some .int)) rm_X4_faultPosition [.ref o] h n (pM Ev .int o a h n rv rS rA) := by
  refine Ct.of rfl (Nat.le_of_ble_eq_true rfl) fun X C hnm => ?_
  have C : Cx Ev X RX4 cX4_faultPosition 1 (some .int) [] := C
  show Wa Ev X rm_X4_faultPosition 1 h n 0 0 (rb_MQ Ev X rm_X4_faultPosition (pM Ev .int o a h n rv rS rA)) 0 [(0, .ref o)] []
  have hF : mdFr h h o a := mdFr.rf
  rw [f_X4_faultPosition] at hf
  refine rb_aload_n C dX4_faultPosition_0 rfl 0 rfl ?_
  refine rb_aload_n C dX4_faultPosition_1 rfl 0 rfl ?_
  refine rb_get (v := .int (S 14)) C fl_X4_25_X4 (Or.inl hM.1) rfl dX4_faultPosition_2 ?_
  have J_j13_2 : ∀ (w0_j13_2 : Int32), f_X4_faultPosition_j13_2 S A w0_j13_2 = some (rv, rS, rA) → Wa Ev X rm_X4_faultPosition 1 h n 0 0 (rb_MQ Ev X rm_X4_faultPosition (pM Ev .int o a h n rv rS rA)) 13 [(0, .ref o)] [.int w0_j13_2, .ref o] := by
    intro w0_j13_2 hf
    rw [f_X4_faultPosition_j13_2] at hf
    obtain ⟨⟨v_8, S_5, A_6⟩, e_4, hf⟩ := rb_bd hf
    refine rb_zVM C mi_X4_fails sv_X4_123 (IsC.of (Or.inl hM.1) ck_X4) (ct_X4_fails Ev h n o a S A w0_j13_2 _ _ _ hM e_4) (rest := []) rfl rfl (Nat.le_of_ble_eq_true rfl) ⟨Nat.le_of_ble_eq_true rfl, Nat.le_of_ble_eq_true rfl⟩ ⟨Nat.zero_le _, Nat.zero_le _⟩ dX4_faultPosition_13 (fun h_7 hM hF1 hn_9 => ?_)
    have hF := hF.tr hF1
    refine rb_if_eq (tgt := 23) C dX4_faultPosition_16 (by decide) (fun c_10 => ?_) (fun c_10 => ?_)
    · have hf := (if_pos c_10).symm.trans hf
      refine rb_aload_n C dX4_faultPosition_23 rfl 0 rfl ?_
      refine rb_get (v := .int (S_5 14)) C fl_X4_25_X4 (Or.inl hM.1) rfl dX4_faultPosition_24 ?_
      cases hf
      exact rb_iret C rfl rfl (Nat.zero_le _) (Nat.zero_le _) dX4_faultPosition_27 ⟨rfl, rfl, hM, hF, rfl⟩
    · have hf := (if_neg c_10).symm.trans hf
      refine rb_iconst (v := 0) C dX4_faultPosition_19 rfl ?_
      refine rb_goto (tgt := 27) C dX4_faultPosition_20 (by decide) ?_
      cases hf
      exact rb_iret C rfl rfl (Nat.zero_le _) (Nat.zero_le _) dX4_faultPosition_27 ⟨rfl, rfl, hM, hF, rfl⟩
  refine rb_if_ge (tgt := 12) C dX4_faultPosition_5 (by decide) (fun c_1 => ?_) (fun c_1 => ?_)
  · have hf := (if_pos c_1).symm.trans hf
    refine rb_iconst (v := 0) C dX4_faultPosition_12 rfl ?_
    exact J_j13_2 0 hf
  · have hf := (if_neg c_1).symm.trans hf
    refine rb_iconst (v := 1) C dX4_faultPosition_8 rfl ?_
    refine rb_goto (tgt := 13) C dX4_faultPosition_9 (by decide) ?_
    exact J_j13_2 1 hf
def f_X4_writes (S : Nat → Int32) (A : Nat → Nat → Int32) (x1 : Int32) : Option ((Nat → Int32) × (Nat → Nat → Int32)) := if ((S 16) < 0 ∨ 80 ≤ (S 16).toNatClampNeg) then none else (some ((upd S 16 ((S 16) + 1)), (va_up A 15 (upd (A 15) (S 16).toNatClampNeg (vp_nar .char ((x1.toUInt32 % 65536).toInt32))))))
abbrev rm_X4_writes : Room := { frames := 0, cells := 0, slots := 0, locals := 0 }
set_option maxHeartbeats 4000000 in
theorem ct_X4_writes (Ev : rb_E) (h : AH) (n : Nat) (o : Nat) (a : Nat → Nat) (S : Nat → Int32) (A : Nat → Nat → Int32) (x1 : Int32) (rS : Nat → Int32) (rA : Nat → Nat → Int32) (hM : MD Ev h o a S A) (hf : f_X4_writes S A x1 = some (rS, rA)) : Ct Ev yX4_writes (ws_ yX4_writes cX4_writes 2 none) rm_X4_writes [.ref o, .int x1] h n (pMv Ev o a h n none rS rA) := by
  refine Ct.of rfl (Nat.le_of_ble_eq_true rfl) fun X C hnm => ?_
  have C : Cx Ev X RX4 cX4_writes 2 none [] := C
  show Wa Ev X rm_X4_writes 2 h n 0 0 (rb_MQ Ev X rm_X4_writes (pMv Ev o a h n none rS rA)) 0 [(0, .ref o), (1, .int x1)] []
  have hF : mdFr h h o a := mdFr.rf
  rw [f_X4_writes] at hf
  refine rb_aload_n C dX4_writes_0 rfl 0 rfl ?_
  refine rb_get (v := .ref (a 15)) C fl_X4_29_X4 (Or.inl hM.1) rfl dX4_writes_1 ?_
  refine rb_aload_n C dX4_writes_4 rfl 0 rfl ?_
  refine rb_get (v := .int (S 16)) C fl_X4_329_X4 (Or.inl hM.1) rfl dX4_writes_5 ?_
  refine rb_iload_n C dX4_writes_8 rfl 1 rfl ?_
  refine rb_i2c C dX4_writes_9 rfl ?_
  have hc_1 : narrow .char (.int (x1.toUInt32 % 65536).toInt32) = .int (x1.toUInt32 % 65536).toInt32 := pk_nc x1
  by_cases c_g : ((S 16) < 0 ∨ 80 ≤ (S 16).toNatClampNeg)
  · exact absurd ((if_pos c_g).symm.trans hf) (fun z => by cases z)
  have hf := (if_neg c_g).symm.trans hf
  refine rb_cast (f := (A 15)) C (hM.2.1 15 rfl) (rb_nN c_g) dX4_writes_10 (fun h_2 e1 e2 => ?_)
  have hM : MD Ev h_2 o a S (va_up A 15 (upd (A 15) (S 16).toNatClampNeg (vp_nar .char ((x1.toUInt32 % 65536).toInt32)))) := hM.ast 15 rfl e1 e2
  have hF := hF.ast 15 rfl e2
  refine rb_aload_n C dX4_writes_11 rfl 0 rfl ?_
  refine rb_dup C dX4_writes_12 rfl ?_
  refine rb_get (v := .int (S 16)) C fl_X4_329_X4 (Or.inl hM.1) rfl dX4_writes_13 ?_
  refine rb_iconst (v := 1) C dX4_writes_16 rfl ?_
  refine rb_iadd C dX4_writes_17 ?_
  refine rb_put (v := .int ((S 16) + 1)) C fw_X4_329_X4 hM.1 rfl rfl (Nat.le_of_ble_eq_true rfl) dX4_writes_18 (fun h_3 e1 e2 => ?_)
  have hM : MD Ev h_3 o a (upd S 16 ((S 16) + 1)) (va_up A 15 (upd (A 15) (S 16).toNatClampNeg (vp_nar .char ((x1.toUInt32 % 65536).toInt32)))) := hM.put e1 e2 rfl
  have hF := hF.put e2
  cases hf
  exact rb_vret C rfl (Nat.zero_le _) (Nat.zero_le _) dX4_writes_21 ⟨rfl, rfl, hM, hF⟩
def f_X4_writesFull_j103_24 (x2 : Int32) (self_ : (Nat → Int32) → (Nat → Nat → Int32) → Int32 → Int32 → Option ((Nat → Int32) × (Nat → Nat → Int32))) (S_19 : Nat → Int32) (A_20 : Nat → Nat → Int32) (w0_j103_24 : Int32) : Option ((Nat → Int32) × (Nat → Nat → Int32)) := ((self_ S_19 A_20 (w0_j103_24 + 1) x2).bind fun (S_27, A_28) => ((f_X4_writes S_27 A_28 41).bind fun (S_33, A_34) => (some (S_33, A_34))))
def f_X4_writesFull_j89_16 (x1 : Int32) (x2 : Int32) (self_ : (Nat → Int32) → (Nat → Nat → Int32) → Int32 → Int32 → Option ((Nat → Int32) × (Nat → Nat → Int32))) (v_3 : Int32) (S_j75_14 : Nat → Int32) (A_j75_14 : Nat → Nat → Int32) (w0_j89_16 : Int32) : Option ((Nat → Int32) × (Nat → Nat → Int32)) := if (w0_j89_16 < 0 ∨ 24 ≤ w0_j89_16.toNatClampNeg) then none else ((f_X4_writes S_j75_14 A_j75_14 ((A_j75_14 17) w0_j89_16.toNatClampNeg)).bind fun (S_19, A_20) => (if 0 ≤ v_3 then (f_X4_writesFull_j103_24 x2 self_ S_19 A_20 v_3) else (f_X4_writesFull_j103_24 x2 self_ S_19 A_20 x1)))
def f_X4_writesFull_j75_14 (x1 : Int32) (x2 : Int32) (self_ : (Nat → Int32) → (Nat → Nat → Int32) → Int32 → Int32 → Option ((Nat → Int32) × (Nat → Nat → Int32))) (v_3 : Int32) (S_j75_14 : Nat → Int32) (A_j75_14 : Nat → Nat → Int32) : Option ((Nat → Int32) × (Nat → Nat → Int32)) := (if 0 ≤ v_3 then (f_X4_writesFull_j89_16 x1 x2 self_ v_3 S_j75_14 A_j75_14 v_3) else (f_X4_writesFull_j89_16 x1 x2 self_ v_3 S_j75_14 A_j75_14 x1))
def f_X4_writesFull_j103_61 (x2 : Int32) (self_ : (Nat → Int32) → (Nat → Nat → Int32) → Int32 → Int32 → Option ((Nat → Int32) × (Nat → Nat → Int32))) (S_56 : Nat → Int32) (A_57 : Nat → Nat → Int32) (w0_j103_61 : Int32) : Option ((Nat → Int32) × (Nat → Nat → Int32)) := ((self_ S_56 A_57 (w0_j103_61 + 1) x2).bind fun (S_64, A_65) => ((f_X4_writes S_64 A_65 41).bind fun (S_70, A_71) => (some (S_70, A_71))))
def f_X4_writesFull_j89_53 (x1 : Int32) (x2 : Int32) (self_ : (Nat → Int32) → (Nat → Nat → Int32) → Int32 → Int32 → Option ((Nat → Int32) × (Nat → Nat → Int32))) (v_3 : Int32) (S_j75_51 : Nat → Int32) (A_j75_51 : Nat → Nat → Int32) (w0_j89_53 : Int32) : Option ((Nat → Int32) × (Nat → Nat → Int32)) := if (w0_j89_53 < 0 ∨ 24 ≤ w0_j89_53.toNatClampNeg) then none else ((f_X4_writes S_j75_51 A_j75_51 ((A_j75_51 17) w0_j89_53.toNatClampNeg)).bind fun (S_56, A_57) => (if 0 ≤ v_3 then (f_X4_writesFull_j103_61 x2 self_ S_56 A_57 v_3) else (f_X4_writesFull_j103_61 x2 self_ S_56 A_57 x1)))
def f_X4_writesFull_j75_51 (x1 : Int32) (x2 : Int32) (self_ : (Nat → Int32) → (Nat → Nat → Int32) → Int32 → Int32 → Option ((Nat → Int32) × (Nat → Nat → Int32))) (v_3 : Int32) (S_j75_51 : Nat → Int32) (A_j75_51 : Nat → Nat → Int32) : Option ((Nat → Int32) × (Nat → Nat → Int32)) := (if 0 ≤ v_3 then (f_X4_writesFull_j89_53 x1 x2 self_ v_3 S_j75_51 A_j75_51 v_3) else (f_X4_writesFull_j89_53 x1 x2 self_ v_3 S_j75_51 A_j75_51 x1))
def f_X4_writesFull_j103_105 (x2 : Int32) (self_ : (Nat → Int32) → (Nat → Nat → Int32) → Int32 → Int32 → Option ((Nat → Int32) × (Nat → Nat → Int32))) (S_100 : Nat → Int32) (A_101 : Nat → Nat → Int32) (w0_j103_105 : Int32) : Option ((Nat → Int32) × (Nat → Nat → Int32)) := ((self_ S_100 A_101 (w0_j103_105 + 1) x2).bind fun (S_108, A_109) => ((f_X4_writes S_108 A_109 41).bind fun (S_114, A_115) => (some (S_114, A_115))))
def f_X4_writesFull_j89_97 (x1 : Int32) (x2 : Int32) (self_ : (Nat → Int32) → (Nat → Nat → Int32) → Int32 → Int32 → Option ((Nat → Int32) × (Nat → Nat → Int32))) (v_3 : Int32) (S_j75_95 : Nat → Int32) (A_j75_95 : Nat → Nat → Int32) (w0_j89_97 : Int32) : Option ((Nat → Int32) × (Nat → Nat → Int32)) := if (w0_j89_97 < 0 ∨ 24 ≤ w0_j89_97.toNatClampNeg) then none else ((f_X4_writes S_j75_95 A_j75_95 ((A_j75_95 17) w0_j89_97.toNatClampNeg)).bind fun (S_100, A_101) => (if 0 ≤ v_3 then (f_X4_writesFull_j103_105 x2 self_ S_100 A_101 v_3) else (f_X4_writesFull_j103_105 x2 self_ S_100 A_101 x1)))
def f_X4_writesFull_j75_95 (x1 : Int32) (x2 : Int32) (self_ : (Nat → Int32) → (Nat → Nat → Int32) → Int32 → Int32 → Option ((Nat → Int32) × (Nat → Nat → Int32))) (v_3 : Int32) (S_j75_95 : Nat → Int32) (A_j75_95 : Nat → Nat → Int32) : Option ((Nat → Int32) × (Nat → Nat → Int32)) := (if 0 ≤ v_3 then (f_X4_writesFull_j89_97 x1 x2 self_ v_3 S_j75_95 A_j75_95 v_3) else (f_X4_writesFull_j89_97 x1 x2 self_ v_3 S_j75_95 A_j75_95 x1))
def f_X4_writesFull_j103_142 (x2 : Int32) (self_ : (Nat → Int32) → (Nat → Nat → Int32) → Int32 → Int32 → Option ((Nat → Int32) × (Nat → Nat → Int32))) (S_137 : Nat → Int32) (A_138 : Nat → Nat → Int32) (w0_j103_142 : Int32) : Option ((Nat → Int32) × (Nat → Nat → Int32)) := ((self_ S_137 A_138 (w0_j103_142 + 1) x2).bind fun (S_145, A_146) => ((f_X4_writes S_145 A_146 41).bind fun (S_151, A_152) => (some (S_151, A_152))))
def f_X4_writesFull_j89_134 (x1 : Int32) (x2 : Int32) (self_ : (Nat → Int32) → (Nat → Nat → Int32) → Int32 → Int32 → Option ((Nat → Int32) × (Nat → Nat → Int32))) (v_3 : Int32) (S_j75_132 : Nat → Int32) (A_j75_132 : Nat → Nat → Int32) (w0_j89_134 : Int32) : Option ((Nat → Int32) × (Nat → Nat → Int32)) := if (w0_j89_134 < 0 ∨ 24 ≤ w0_j89_134.toNatClampNeg) then none else ((f_X4_writes S_j75_132 A_j75_132 ((A_j75_132 17) w0_j89_134.toNatClampNeg)).bind fun (S_137, A_138) => (if 0 ≤ v_3 then (f_X4_writesFull_j103_142 x2 self_ S_137 A_138 v_3) else (f_X4_writesFull_j103_142 x2 self_ S_137 A_138 x1)))
def f_X4_writesFull_j75_132 (x1 : Int32) (x2 : Int32) (self_ : (Nat → Int32) → (Nat → Nat → Int32) → Int32 → Int32 → Option ((Nat → Int32) × (Nat → Nat → Int32))) (v_3 : Int32) (S_j75_132 : Nat → Int32) (A_j75_132 : Nat → Nat → Int32) : Option ((Nat → Int32) × (Nat → Nat → Int32)) := (if 0 ≤ v_3 then (f_X4_writesFull_j89_134 x1 x2 self_ v_3 S_j75_132 A_j75_132 v_3) else (f_X4_writesFull_j89_134 x1 x2 self_ v_3 S_j75_132 A_j75_132 x1))
def f_X4_writesFull : Nat → (Nat → Int32) → (Nat → Nat → Int32) → Int32 → Int32 → Option ((Nat → Int32) × (Nat → Nat → Int32))
  | 0, _, _, _, _ => none
  | d + 1, S, A, x1, x2 => ((f_X4_split S A x1 x2).bind fun v_3 => (if 0 ≤ v_3 then (if 0 ≤ v_3 then ((f_X4_writes S A 40).bind fun (S_9, A_10) => (if v_3 < 0 then (f_X4_writesFull_j75_14 x1 x2 (f_X4_writesFull d) v_3 S_9 A_10) else (((f_X4_writesFull d) S_9 A_10 x1 v_3).bind fun (S_39, A_40) => (f_X4_writesFull_j75_14 x1 x2 (f_X4_writesFull d) v_3 S_39 A_40)))) else if (x1 < 0 ∨ 24 ≤ x1.toNatClampNeg) then none else (if ((A 17) x1.toNatClampNeg) = 126 then ((f_X4_writes S A 40).bind fun (S_46, A_47) => (if v_3 < 0 then (f_X4_writesFull_j75_51 x1 x2 (f_X4_writesFull d) v_3 S_46 A_47) else (((f_X4_writesFull d) S_46 A_47 x1 v_3).bind fun (S_76, A_77) => (f_X4_writesFull_j75_51 x1 x2 (f_X4_writesFull d) v_3 S_76 A_77)))) else if (x1 < 0 ∨ 24 ≤ x1.toNatClampNeg) then none else ((f_X4_writes S A ((A 17) x1.toNatClampNeg)).bind fun (S_82, A_83) => (some (S_82, A_83))))) else if (x1 < 0 ∨ 24 ≤ x1.toNatClampNeg) then none else (if ((A 17) x1.toNatClampNeg) = 40 then (((f_X4_writesFull d) S A (x1 + 1) (x2 - 1)).bind fun (S_169, A_170) => (some (S_169, A_170))) else (if 0 ≤ v_3 then ((f_X4_writes S A 40).bind fun (S_90, A_91) => (if v_3 < 0 then (f_X4_writesFull_j75_95 x1 x2 (f_X4_writesFull d) v_3 S_90 A_91) else (((f_X4_writesFull d) S_90 A_91 x1 v_3).bind fun (S_120, A_121) => (f_X4_writesFull_j75_95 x1 x2 (f_X4_writesFull d) v_3 S_120 A_121)))) else if (x1 < 0 ∨ 24 ≤ x1.toNatClampNeg) then none else (if ((A 17) x1.toNatClampNeg) = 126 then ((f_X4_writes S A 40).bind fun (S_127, A_128) => (if v_3 < 0 then (f_X4_writesFull_j75_132 x1 x2 (f_X4_writesFull d) v_3 S_127 A_128) else (((f_X4_writesFull d) S_127 A_128 x1 v_3).bind fun (S_157, A_158) => (f_X4_writesFull_j75_132 x1 x2 (f_X4_writesFull d) v_3 S_157 A_158)))) else if (x1 < 0 ∨ 24 ≤ x1.toNatClampNeg) then none else ((f_X4_writes S A ((A 17) x1.toNatClampNeg)).bind fun (S_163, A_164) => (some (S_163, A_164))))))))
abbrev rm_X4_writesFull (d : Nat) : Room := { frames := 6 + d, cells := 0, slots := 0, locals := 200 + 60 * d }
set_option maxHeartbeats 4000000 in
theorem ct_X4_writesFull (Ev : rb_E) (h : AH) (n : Nat) (d : Nat) (o : Nat) (a : Nat → Nat) (S : Nat → Int32) (A : Nat → Nat → Int32) (x1 : Int32) (x2 : Int32) (rS : Nat → Int32) (rA : Nat → Nat → Int32) (hM : MD Ev h o a S A) (hf : f_X4_writesFull d S A x1 x2 = some (rS, rA)) : Ct Ev yX4_writesFull (ws_ yX4_writesFull cX4_writesFull 4 none) (rm_X4_writesFull d) [.ref o, .int x1, .int x2] h n (pMv Ev o a h n none rS rA) := by
  induction d generalizing h S A x1 x2 rS rA with
  | zero => cases hf
  | succ d ih =>
    refine Ct.of rfl (Nat.le_of_ble_eq_true rfl) fun X C hnm => ?_
    have C : Cx Ev X RX4 cX4_writesFull 4 none [] := C
    show Wa Ev X (rm_X4_writesFull (d + 1)) 4 h n 0 0 (rb_MQ Ev X (rm_X4_writesFull (d + 1)) (pMv Ev o a h n none rS rA)) 0 [(0, .ref o), (1, .int x1), (2, .int x2)] []
    have hF : mdFr h h o a := mdFr.rf
    rw [f_X4_writesFull] at hf
    refine rb_aload_n C dX4_writesFull_0 rfl 0 rfl ?_
    refine rb_iload_n C dX4_writesFull_1 rfl 1 rfl ?_
    refine rb_iload_n C dX4_writesFull_2 rfl 2 rfl ?_
    obtain ⟨v_3, e_2, hf⟩ := rb_bd hf
    refine rb_zVR C mi_X4_split sv_X4_173 (IsC.of (Or.inl hM.1) ck_X4) (ct_X4_split Ev h n o a S A x1 x2 _ hM e_2) (rest := []) rfl rfl (Nat.le_of_ble_eq_true rfl) ⟨by show _ + 1 ≤ 6 + (d + 1); omega, by show _ ≤ 200 + 60 * (d + 1); omega⟩ ⟨Nat.zero_le _, Nat.zero_le _⟩ dX4_writesFull_3 (fun hn_4 => ?_)
    refine rb_istore_n (lv' := [(3, .int v_3), (0, .ref o), (1, .int x1), (2, .int x2)]) C dX4_writesFull_6 rfl (by decide) rfl ?_
    refine rb_iload_n C dX4_writesFull_7 rfl 0 rfl ?_
    refine rb_if_ge (tgt := 33) C dX4_writesFull_8 (by decide) (fun c_5 => ?_) (fun c_5 => ?_)
    · have hf := (if_pos c_5).symm.trans hf
      refine rb_iload_n C dX4_writesFull_33 rfl 0 rfl ?_
      refine rb_if_ge (tgt := 59) C dX4_writesFull_34 (by decide) (fun c_6 => ?_) (fun c_6 => ?_)
      · have hf := (if_pos c_6).symm.trans hf
        refine rb_aload_n C dX4_writesFull_59 rfl 1 rfl ?_
        refine rb_bipush (v := 40) C dX4_writesFull_60 rfl ?_
        obtain ⟨⟨S_9, A_10⟩, e_8, hf⟩ := rb_bd hf
        refine rb_zVMv C mi_X4_writes sv_X4_335 (IsC.of (Or.inl hM.1) ck_X4) (ct_X4_writes Ev h n o a S A 40 _ _ hM e_8) (rest := []) rfl rfl (Nat.le_of_ble_eq_true rfl) ⟨by show _ + 1 ≤ 6 + (d + 1); omega, by show _ ≤ 200 + 60 * (d + 1); omega⟩ ⟨Nat.zero_le _, Nat.zero_le _⟩ dX4_writesFull_62 (fun h_11 hM hF1 => ?_)
        have hF := hF.tr hF1
        refine rb_iload_n C dX4_writesFull_65 rfl 0 rfl ?_
        have J_j75_14 : ∀  (S_j75_14 : Nat → Int32) (A_j75_14 : Nat → Nat → Int32) (h_j75_14 : AH), MD Ev h_j75_14 o a S_j75_14 A_j75_14 → mdFr h h_j75_14 o a → f_X4_writesFull_j75_14 x1 x2 (f_X4_writesFull d) v_3 S_j75_14 A_j75_14 = some (rS, rA) → Wa Ev X (rm_X4_writesFull (d + 1)) 4 h_j75_14 n 0 0 (rb_MQ Ev X (rm_X4_writesFull (d + 1)) (pMv Ev o a h n none rS rA)) 75 [(0, .ref o), (1, .int x1), (2, .int x2), (3, .int v_3)] [] := by
          intro  S_j75_14 A_j75_14 h_j75_14 hM hF hf
          rw [f_X4_writesFull_j75_14] at hf
          refine rb_aload_n C dX4_writesFull_75 rfl 0 rfl ?_
          refine rb_aload_n C dX4_writesFull_76 rfl 0 rfl ?_
          refine rb_get (v := .ref (a 17)) C fl_X4_33_X4 (Or.inl hM.1) rfl dX4_writesFull_77 ?_
          refine rb_iload_n C dX4_writesFull_80 rfl 3 rfl ?_
          have J_j89_16 : ∀ (w0_j89_16 : Int32), f_X4_writesFull_j89_16 x1 x2 (f_X4_writesFull d) v_3 S_j75_14 A_j75_14 w0_j89_16 = some (rS, rA) → Wa Ev X (rm_X4_writesFull (d + 1)) 4 h_j75_14 n 0 0 (rb_MQ Ev X (rm_X4_writesFull (d + 1)) (pMv Ev o a h n none rS rA)) 89 [(0, .ref o), (1, .int x1), (2, .int x2), (3, .int v_3)] [.int w0_j89_16, .ref (a 17), .ref o] := by
            intro w0_j89_16 hf
            rw [f_X4_writesFull_j89_16] at hf
            by_cases c_g : (w0_j89_16 < 0 ∨ 24 ≤ w0_j89_16.toNatClampNeg)
            · exact absurd ((if_pos c_g).symm.trans hf) (fun z => by cases z)
            have hf := (if_neg c_g).symm.trans hf
            refine rb_iald (f := (A_j75_14 17)) C (Or.inl (hM.2.1 17 rfl)) (rb_nN c_g) dX4_writesFull_89 ?_
            obtain ⟨⟨S_19, A_20⟩, e_18, hf⟩ := rb_bd hf
            refine rb_zVMv C mi_X4_writes sv_X4_335 (IsC.of (Or.inl hM.1) ck_X4) (ct_X4_writes Ev h_j75_14 n o a S_j75_14 A_j75_14 ((A_j75_14 17) w0_j89_16.toNatClampNeg) _ _ hM e_18) (rest := []) rfl rfl (Nat.le_of_ble_eq_true rfl) ⟨by show _ + 1 ≤ 6 + (d + 1); omega, by show _ ≤ 200 + 60 * (d + 1); omega⟩ ⟨Nat.zero_le _, Nat.zero_le _⟩ dX4_writesFull_90 (fun h_21 hM hF1 => ?_)
            have hF := hF.tr hF1
            refine rb_aload_n C dX4_writesFull_93 rfl 0 rfl ?_
            refine rb_iload_n C dX4_writesFull_94 rfl 3 rfl ?_
            have J_j103_24 : ∀ (w0_j103_24 : Int32), f_X4_writesFull_j103_24 x2 (f_X4_writesFull d) S_19 A_20 w0_j103_24 = some (rS, rA) → Wa Ev X (rm_X4_writesFull (d + 1)) 4 h_21 n 0 0 (rb_MQ Ev X (rm_X4_writesFull (d + 1)) (pMv Ev o a h n none rS rA)) 103 [(0, .ref o), (1, .int x1), (2, .int x2), (3, .int v_3)] [.int w0_j103_24, .ref o] := by
              intro w0_j103_24 hf
              rw [f_X4_writesFull_j103_24] at hf
              refine rb_iconst (v := 1) C dX4_writesFull_103 rfl ?_
              refine rb_iadd C dX4_writesFull_104 ?_
              refine rb_iload_n C dX4_writesFull_105 rfl 2 rfl ?_
              obtain ⟨⟨S_27, A_28⟩, e_26, hf⟩ := rb_bd hf
              refine rb_zVMv C mi_X4_writesFull sv_X4_332 (IsC.of (Or.inl hM.1) ck_X4) (ih h_21 S_19 A_20 (w0_j103_24 + 1) x2 _ _ hM e_26) (rest := []) rfl rfl (Nat.le_of_ble_eq_true rfl) ⟨by show _ + 1 ≤ 6 + (d + 1); omega, by show _ ≤ 200 + 60 * (d + 1); omega⟩ ⟨Nat.zero_le _, Nat.zero_le _⟩ dX4_writesFull_106 (fun h_29 hM hF1 => ?_)
              have hF := hF.tr hF1
              refine rb_aload_n C dX4_writesFull_109 rfl 0 rfl ?_
              refine rb_bipush (v := 41) C dX4_writesFull_110 rfl ?_
              obtain ⟨⟨S_33, A_34⟩, e_32, hf⟩ := rb_bd hf
              refine rb_zVMv C mi_X4_writes sv_X4_335 (IsC.of (Or.inl hM.1) ck_X4) (ct_X4_writes Ev h_29 n o a S_27 A_28 41 _ _ hM e_32) (rest := []) rfl rfl (Nat.le_of_ble_eq_true rfl) ⟨by show _ + 1 ≤ 6 + (d + 1); omega, by show _ ≤ 200 + 60 * (d + 1); omega⟩ ⟨Nat.zero_le _, Nat.zero_le _⟩ dX4_writesFull_112 (fun h_35 hM hF1 => ?_)
              have hF := hF.tr hF1
              cases hf
              exact rb_vret C rfl (Nat.zero_le _) (Nat.zero_le _) dX4_writesFull_115 ⟨rfl, rfl, hM, hF⟩
            refine rb_if_ge (tgt := 102) C dX4_writesFull_95 (by decide) (fun c_23 => ?_) (fun c_23 => ?_)
            · have hf := (if_pos c_23).symm.trans hf
              refine rb_iload_n C dX4_writesFull_102 rfl 3 rfl ?_
              exact J_j103_24 v_3 hf
            · have hf := (if_neg c_23).symm.trans hf
              refine rb_iload_n C dX4_writesFull_98 rfl 1 rfl ?_
              refine rb_goto (tgt := 103) C dX4_writesFull_99 (by decide) ?_
              exact J_j103_24 x1 hf
          refine rb_if_ge (tgt := 88) C dX4_writesFull_81 (by decide) (fun c_15 => ?_) (fun c_15 => ?_)
          · have hf := (if_pos c_15).symm.trans hf
            refine rb_iload_n C dX4_writesFull_88 rfl 3 rfl ?_
            exact J_j89_16 v_3 hf
          · have hf := (if_neg c_15).symm.trans hf
            refine rb_iload_n C dX4_writesFull_84 rfl 1 rfl ?_
            refine rb_goto (tgt := 89) C dX4_writesFull_85 (by decide) ?_
            exact J_j89_16 x1 hf
        refine rb_if_lt (tgt := 75) C dX4_writesFull_66 (by decide) (fun c_13 => ?_) (fun c_13 => ?_)
        · have hf := (if_pos c_13).symm.trans hf
          refine rb_sub [1, 2, 3, 0] rfl ?_
          exact J_j75_14 S_9 A_10 h_11 hM hF hf
        · have hf := (if_neg c_13).symm.trans hf
          refine rb_aload_n C dX4_writesFull_69 rfl 1 rfl ?_
          refine rb_iload_n C dX4_writesFull_70 rfl 2 rfl ?_
          refine rb_iload_n C dX4_writesFull_71 rfl 0 rfl ?_
          obtain ⟨⟨S_39, A_40⟩, e_38, hf⟩ := rb_bd hf
          refine rb_zVMv C mi_X4_writesFull sv_X4_332 (IsC.of (Or.inl hM.1) ck_X4) (ih h_11 S_9 A_10 x1 v_3 _ _ hM e_38) (rest := []) rfl rfl (Nat.le_of_ble_eq_true rfl) ⟨by show _ + 1 ≤ 6 + (d + 1); omega, by show _ ≤ 200 + 60 * (d + 1); omega⟩ ⟨Nat.zero_le _, Nat.zero_le _⟩ dX4_writesFull_72 (fun h_41 hM hF1 => ?_)
          have hF := hF.tr hF1
          refine rb_sub [1, 2, 3, 0] rfl ?_
          exact J_j75_14 S_39 A_40 h_41 hM hF hf
      · have hf := (if_neg c_6).symm.trans hf
        refine rb_aload_n C dX4_writesFull_37 rfl 1 rfl ?_
        refine rb_get (v := .ref (a 17)) C fl_X4_33_X4 (Or.inl hM.1) rfl dX4_writesFull_38 ?_
        refine rb_iload_n C dX4_writesFull_41 rfl 2 rfl ?_
        by_cases c_g : (x1 < 0 ∨ 24 ≤ x1.toNatClampNeg)
        · exact absurd ((if_pos c_g).symm.trans hf) (fun z => by cases z)
        have hf := (if_neg c_g).symm.trans hf
        refine rb_iald (f := (A 17)) C (Or.inl (hM.2.1 17 rfl)) (rb_nN c_g) dX4_writesFull_42 ?_
        refine rb_bipush (v := 126) C dX4_writesFull_43 rfl ?_
        refine rb_icmp_eq (tgt := 59) C dX4_writesFull_45 (by decide) (fun c_43 => ?_) (fun c_43 => ?_)
        · have hf := (if_pos c_43).symm.trans hf
          refine rb_aload_n C dX4_writesFull_59 rfl 1 rfl ?_
          refine rb_bipush (v := 40) C dX4_writesFull_60 rfl ?_
          obtain ⟨⟨S_46, A_47⟩, e_45, hf⟩ := rb_bd hf
          refine rb_zVMv C mi_X4_writes sv_X4_335 (IsC.of (Or.inl hM.1) ck_X4) (ct_X4_writes Ev h n o a S A 40 _ _ hM e_45) (rest := []) rfl rfl (Nat.le_of_ble_eq_true rfl) ⟨by show _ + 1 ≤ 6 + (d + 1); omega, by show _ ≤ 200 + 60 * (d + 1); omega⟩ ⟨Nat.zero_le _, Nat.zero_le _⟩ dX4_writesFull_62 (fun h_48 hM hF1 => ?_)
          have hF := hF.tr hF1
          refine rb_iload_n C dX4_writesFull_65 rfl 0 rfl ?_
          have J_j75_51 : ∀  (S_j75_51 : Nat → Int32) (A_j75_51 : Nat → Nat → Int32) (h_j75_51 : AH), MD Ev h_j75_51 o a S_j75_51 A_j75_51 → mdFr h h_j75_51 o a → f_X4_writesFull_j75_51 x1 x2 (f_X4_writesFull d) v_3 S_j75_51 A_j75_51 = some (rS, rA) → Wa Ev X (rm_X4_writesFull (d + 1)) 4 h_j75_51 n 0 0 (rb_MQ Ev X (rm_X4_writesFull (d + 1)) (pMv Ev o a h n none rS rA)) 75 [(0, .ref o), (1, .int x1), (2, .int x2), (3, .int v_3)] [] := by
            intro  S_j75_51 A_j75_51 h_j75_51 hM hF hf
            rw [f_X4_writesFull_j75_51] at hf
            refine rb_aload_n C dX4_writesFull_75 rfl 0 rfl ?_
            refine rb_aload_n C dX4_writesFull_76 rfl 0 rfl ?_
            refine rb_get (v := .ref (a 17)) C fl_X4_33_X4 (Or.inl hM.1) rfl dX4_writesFull_77 ?_
            refine rb_iload_n C dX4_writesFull_80 rfl 3 rfl ?_
            have J_j89_53 : ∀ (w0_j89_53 : Int32), f_X4_writesFull_j89_53 x1 x2 (f_X4_writesFull d) v_3 S_j75_51 A_j75_51 w0_j89_53 = some (rS, rA) → Wa Ev X (rm_X4_writesFull (d + 1)) 4 h_j75_51 n 0 0 (rb_MQ Ev X (rm_X4_writesFull (d + 1)) (pMv Ev o a h n none rS rA)) 89 [(0, .ref o), (1, .int x1), (2, .int x2), (3, .int v_3)] [.int w0_j89_53, .ref (a 17), .ref o] := by
              intro w0_j89_53 hf
              rw [f_X4_writesFull_j89_53] at hf
              by_cases c_g : (w0_j89_53 < 0 ∨ 24 ≤ w0_j89_53.toNatClampNeg)
              · exact absurd ((if_pos c_g).symm.trans hf) (fun z => by cases z)
              have hf := (if_neg c_g).symm.trans hf
              refine rb_iald (f := (A_j75_51 17)) C (Or.inl (hM.2.1 17 rfl)) (rb_nN c_g) dX4_writesFull_89 ?_
              obtain ⟨⟨S_56, A_57⟩, e_55, hf⟩ := rb_bd hf
              refine rb_zVMv C mi_X4_writes sv_X4_335 (IsC.of (Or.inl hM.1) ck_X4) (ct_X4_writes Ev h_j75_51 n o a S_j75_51 A_j75_51 ((A_j75_51 17) w0_j89_53.toNatClampNeg) _ _ hM e_55) (rest := []) rfl rfl (Nat.le_of_ble_eq_true rfl) ⟨by show _ + 1 ≤ 6 + (d + 1); omega, by show _ ≤ 200 + 60 * (d + 1); omega⟩ ⟨Nat.zero_le _, Nat.zero_le _⟩ dX4_writesFull_90 (fun h_58 hM hF1 => ?_)
              have hF := hF.tr hF1
              refine rb_aload_n C dX4_writesFull_93 rfl 0 rfl ?_
              refine rb_iload_n C dX4_writesFull_94 rfl 3 rfl ?_
              have J_j103_61 : ∀ (w0_j103_61 : Int32), f_X4_writesFull_j103_61 x2 (f_X4_writesFull d) S_56 A_57 w0_j103_61 = some (rS, rA) → Wa Ev X (rm_X4_writesFull (d + 1)) 4 h_58 n 0 0 (rb_MQ Ev X (rm_X4_writesFull (d + 1)) (pMv Ev o a h n none rS rA)) 103 [(0, .ref o), (1, .int x1), (2, .int x2), (3, .int v_3)] [.int w0_j103_61, .ref o] := by
                intro w0_j103_61 hf
                rw [f_X4_writesFull_j103_61] at hf
                refine rb_iconst (v := 1) C dX4_writesFull_103 rfl ?_
                refine rb_iadd C dX4_writesFull_104 ?_
                refine rb_iload_n C dX4_writesFull_105 rfl 2 rfl ?_
                obtain ⟨⟨S_64, A_65⟩, e_63, hf⟩ := rb_bd hf
                refine rb_zVMv C mi_X4_writesFull sv_X4_332 (IsC.of (Or.inl hM.1) ck_X4) (ih h_58 S_56 A_57 (w0_j103_61 + 1) x2 _ _ hM e_63) (rest := []) rfl rfl (Nat.le_of_ble_eq_true rfl) ⟨by show _ + 1 ≤ 6 + (d + 1); omega, by show _ ≤ 200 + 60 * (d + 1); omega⟩ ⟨Nat.zero_le _, Nat.zero_le _⟩ dX4_writesFull_106 (fun h_66 hM hF1 => ?_)
                have hF := hF.tr hF1
                refine rb_aload_n C dX4_writesFull_109 rfl 0 rfl ?_
                refine rb_bipush (v := 41) C dX4_writesFull_110 rfl ?_
                obtain ⟨⟨S_70, A_71⟩, e_69, hf⟩ := rb_bd hf
                refine rb_zVMv C mi_X4_writes sv_X4_335 (IsC.of (Or.inl hM.1) ck_X4) (ct_X4_writes Ev h_66 n o a S_64 A_65 41 _ _ hM e_69) (rest := []) rfl rfl (Nat.le_of_ble_eq_true rfl) ⟨by show _ + 1 ≤ 6 + (d + 1); omega, by show _ ≤ 200 + 60 * (d + 1); omega⟩ ⟨Nat.zero_le _, Nat.zero_le _⟩ dX4_writesFull_112 (fun h_72 hM hF1 => ?_)
                have hF := hF.tr hF1
                cases hf
                exact rb_vret C rfl (Nat.zero_le _) (Nat.zero_le _) dX4_writesFull_115 ⟨rfl, rfl, hM, hF⟩
              refine rb_if_ge (tgt := 102) C dX4_writesFull_95 (by decide) (fun c_60 => ?_) (fun c_60 => ?_)
              · have hf := (if_pos c_60).symm.trans hf
                refine rb_iload_n C dX4_writesFull_102 rfl 3 rfl ?_
                exact J_j103_61 v_3 hf
              · have hf := (if_neg c_60).symm.trans hf
                refine rb_iload_n C dX4_writesFull_98 rfl 1 rfl ?_
                refine rb_goto (tgt := 103) C dX4_writesFull_99 (by decide) ?_
                exact J_j103_61 x1 hf
            refine rb_if_ge (tgt := 88) C dX4_writesFull_81 (by decide) (fun c_52 => ?_) (fun c_52 => ?_)
            · have hf := (if_pos c_52).symm.trans hf
              refine rb_iload_n C dX4_writesFull_88 rfl 3 rfl ?_
              exact J_j89_53 v_3 hf
            · have hf := (if_neg c_52).symm.trans hf
              refine rb_iload_n C dX4_writesFull_84 rfl 1 rfl ?_
              refine rb_goto (tgt := 89) C dX4_writesFull_85 (by decide) ?_
              exact J_j89_53 x1 hf
          refine rb_if_lt (tgt := 75) C dX4_writesFull_66 (by decide) (fun c_50 => ?_) (fun c_50 => ?_)
          · have hf := (if_pos c_50).symm.trans hf
            refine rb_sub [1, 2, 3, 0] rfl ?_
            exact J_j75_51 S_46 A_47 h_48 hM hF hf
          · have hf := (if_neg c_50).symm.trans hf
            refine rb_aload_n C dX4_writesFull_69 rfl 1 rfl ?_
            refine rb_iload_n C dX4_writesFull_70 rfl 2 rfl ?_
            refine rb_iload_n C dX4_writesFull_71 rfl 0 rfl ?_
            obtain ⟨⟨S_76, A_77⟩, e_75, hf⟩ := rb_bd hf
            refine rb_zVMv C mi_X4_writesFull sv_X4_332 (IsC.of (Or.inl hM.1) ck_X4) (ih h_48 S_46 A_47 x1 v_3 _ _ hM e_75) (rest := []) rfl rfl (Nat.le_of_ble_eq_true rfl) ⟨by show _ + 1 ≤ 6 + (d + 1); omega, by show _ ≤ 200 + 60 * (d + 1); omega⟩ ⟨Nat.zero_le _, Nat.zero_le _⟩ dX4_writesFull_72 (fun h_78 hM hF1 => ?_)
            have hF := hF.tr hF1
            refine rb_sub [1, 2, 3, 0] rfl ?_
            exact J_j75_51 S_76 A_77 h_78 hM hF hf
        · have hf := (if_neg c_43).symm.trans hf
          refine rb_aload_n C dX4_writesFull_48 rfl 1 rfl ?_
          refine rb_aload_n C dX4_writesFull_49 rfl 1 rfl ?_
          refine rb_get (v := .ref (a 17)) C fl_X4_33_X4 (Or.inl hM.1) rfl dX4_writesFull_50 ?_
          refine rb_iload_n C dX4_writesFull_53 rfl 2 rfl ?_
          by_cases c_g : (x1 < 0 ∨ 24 ≤ x1.toNatClampNeg)
          · exact absurd ((if_pos c_g).symm.trans hf) (fun z => by cases z)
          have hf := (if_neg c_g).symm.trans hf
          refine rb_iald (f := (A 17)) C (Or.inl (hM.2.1 17 rfl)) (rb_nN c_g) dX4_writesFull_54 ?_
          obtain ⟨⟨S_82, A_83⟩, e_81, hf⟩ := rb_bd hf
          refine rb_zVMv C mi_X4_writes sv_X4_335 (IsC.of (Or.inl hM.1) ck_X4) (ct_X4_writes Ev h n o a S A ((A 17) x1.toNatClampNeg) _ _ hM e_81) (rest := []) rfl rfl (Nat.le_of_ble_eq_true rfl) ⟨by show _ + 1 ≤ 6 + (d + 1); omega, by show _ ≤ 200 + 60 * (d + 1); omega⟩ ⟨Nat.zero_le _, Nat.zero_le _⟩ dX4_writesFull_55 (fun h_84 hM hF1 => ?_)
          have hF := hF.tr hF1
          cases hf
          exact rb_vret C rfl (Nat.zero_le _) (Nat.zero_le _) dX4_writesFull_58 ⟨rfl, rfl, hM, hF⟩
    · have hf := (if_neg c_5).symm.trans hf
      refine rb_aload_n C dX4_writesFull_11 rfl 1 rfl ?_
      refine rb_get (v := .ref (a 17)) C fl_X4_33_X4 (Or.inl hM.1) rfl dX4_writesFull_12 ?_
      refine rb_iload_n C dX4_writesFull_15 rfl 2 rfl ?_
      by_cases c_g : (x1 < 0 ∨ 24 ≤ x1.toNatClampNeg)
      · exact absurd ((if_pos c_g).symm.trans hf) (fun z => by cases z)
      have hf := (if_neg c_g).symm.trans hf
      refine rb_iald (f := (A 17)) C (Or.inl (hM.2.1 17 rfl)) (rb_nN c_g) dX4_writesFull_16 ?_
      refine rb_bipush (v := 40) C dX4_writesFull_17 rfl ?_
      refine rb_icmp_ne (tgt := 33) C dX4_writesFull_19 (by decide) (fun c_86 => ?_) (fun c_86 => ?_)
      · have hf := (if_neg c_86).symm.trans hf
        refine rb_iload_n C dX4_writesFull_33 rfl 0 rfl ?_
        refine rb_if_ge (tgt := 59) C dX4_writesFull_34 (by decide) (fun c_87 => ?_) (fun c_87 => ?_)
        · have hf := (if_pos c_87).symm.trans hf
          refine rb_aload_n C dX4_writesFull_59 rfl 1 rfl ?_
          refine rb_bipush (v := 40) C dX4_writesFull_60 rfl ?_
          obtain ⟨⟨S_90, A_91⟩, e_89, hf⟩ := rb_bd hf
          refine rb_zVMv C mi_X4_writes sv_X4_335 (IsC.of (Or.inl hM.1) ck_X4) (ct_X4_writes Ev h n o a S A 40 _ _ hM e_89) (rest := []) rfl rfl (Nat.le_of_ble_eq_true rfl) ⟨by show _ + 1 ≤ 6 + (d + 1); omega, by show _ ≤ 200 + 60 * (d + 1); omega⟩ ⟨Nat.zero_le _, Nat.zero_le _⟩ dX4_writesFull_62 (fun h_92 hM hF1 => ?_)
          have hF := hF.tr hF1
          refine rb_iload_n C dX4_writesFull_65 rfl 0 rfl ?_
          have J_j75_95 : ∀  (S_j75_95 : Nat → Int32) (A_j75_95 : Nat → Nat → Int32) (h_j75_95 : AH), MD Ev h_j75_95 o a S_j75_95 A_j75_95 → mdFr h h_j75_95 o a → f_X4_writesFull_j75_95 x1 x2 (f_X4_writesFull d) v_3 S_j75_95 A_j75_95 = some (rS, rA) → Wa Ev X (rm_X4_writesFull (d + 1)) 4 h_j75_95 n 0 0 (rb_MQ Ev X (rm_X4_writesFull (d + 1)) (pMv Ev o a h n none rS rA)) 75 [(0, .ref o), (1, .int x1), (2, .int x2), (3, .int v_3)] [] := by
            intro  S_j75_95 A_j75_95 h_j75_95 hM hF hf
            rw [f_X4_writesFull_j75_95] at hf
            refine rb_aload_n C dX4_writesFull_75 rfl 0 rfl ?_
            refine rb_aload_n C dX4_writesFull_76 rfl 0 rfl ?_
            refine rb_get (v := .ref (a 17)) C fl_X4_33_X4 (Or.inl hM.1) rfl dX4_writesFull_77 ?_
            refine rb_iload_n C dX4_writesFull_80 rfl 3 rfl ?_
            have J_j89_97 : ∀ (w0_j89_97 : Int32), f_X4_writesFull_j89_97 x1 x2 (f_X4_writesFull d) v_3 S_j75_95 A_j75_95 w0_j89_97 = some (rS, rA) → Wa Ev X (rm_X4_writesFull (d + 1)) 4 h_j75_95 n 0 0 (rb_MQ Ev X (rm_X4_writesFull (d + 1)) (pMv Ev o a h n none rS rA)) 89 [(0, .ref o), (1, .int x1), (2, .int x2), (3, .int v_3)] [.int w0_j89_97, .ref (a 17), .ref o] := by
              intro w0_j89_97 hf
              rw [f_X4_writesFull_j89_97] at hf
              by_cases c_g : (w0_j89_97 < 0 ∨ 24 ≤ w0_j89_97.toNatClampNeg)
              · exact absurd ((if_pos c_g).symm.trans hf) (fun z => by cases z)
              have hf := (if_neg c_g).symm.trans hf
              refine rb_iald (f := (A_j75_95 17)) C (Or.inl (hM.2.1 17 rfl)) (rb_nN c_g) dX4_writesFull_89 ?_
              obtain ⟨⟨S_100, A_101⟩, e_99, hf⟩ := rb_bd hf
              refine rb_zVMv C mi_X4_writes sv_X4_335 (IsC.of (Or.inl hM.1) ck_X4) (ct_X4_writes Ev h_j75_95 n o a S_j75_95 A_j75_95 ((A_j75_95 17) w0_j89_97.toNatClampNeg) _ _ hM e_99) (rest := []) rfl rfl (Nat.le_of_ble_eq_true rfl) ⟨by show _ + 1 ≤ 6 + (d + 1); omega, by show _ ≤ 200 + 60 * (d + 1); omega⟩ ⟨Nat.zero_le _, Nat.zero_le _⟩ dX4_writesFull_90 (fun h_102 hM hF1 => ?_)
              have hF := hF.tr hF1
              refine rb_aload_n C dX4_writesFull_93 rfl 0 rfl ?_
              refine rb_iload_n C dX4_writesFull_94 rfl 3 rfl ?_
              have J_j103_105 : ∀ (w0_j103_105 : Int32), f_X4_writesFull_j103_105 x2 (f_X4_writesFull d) S_100 A_101 w0_j103_105 = some (rS, rA) → Wa Ev X (rm_X4_writesFull (d + 1)) 4 h_102 n 0 0 (rb_MQ Ev X (rm_X4_writesFull (d + 1)) (pMv Ev o a h n none rS rA)) 103 [(0, .ref o), (1, .int x1), (2, .int x2), (3, .int v_3)] [.int w0_j103_105, .ref o] := by
                intro w0_j103_105 hf
                rw [f_X4_writesFull_j103_105] at hf
                refine rb_iconst (v := 1) C dX4_writesFull_103 rfl ?_
                refine rb_iadd C dX4_writesFull_104 ?_
                refine rb_iload_n C dX4_writesFull_105 rfl 2 rfl ?_
                obtain ⟨⟨S_108, A_109⟩, e_107, hf⟩ := rb_bd hf
                refine rb_zVMv C mi_X4_writesFull sv_X4_332 (IsC.of (Or.inl hM.1) ck_X4) (ih h_102 S_100 A_101 (w0_j103_105 + 1) x2 _ _ hM e_107) (rest := []) rfl rfl (Nat.le_of_ble_eq_true rfl) ⟨by show _ + 1 ≤ 6 + (d + 1); omega, by show _ ≤ 200 + 60 * (d + 1); omega⟩ ⟨Nat.zero_le _, Nat.zero_le _⟩ dX4_writesFull_106 (fun h_110 hM hF1 => ?_)
                have hF := hF.tr hF1
                refine rb_aload_n C dX4_writesFull_109 rfl 0 rfl ?_
                refine rb_bipush (v := 41) C dX4_writesFull_110 rfl ?_
                obtain ⟨⟨S_114, A_115⟩, e_113, hf⟩ := rb_bd hf
                refine rb_zVMv C mi_X4_writes sv_X4_335 (IsC.of (Or.inl hM.1) ck_X4) (ct_X4_writes Ev h_110 n o a S_108 A_109 41 _ _ hM e_113) (rest := []) rfl rfl (Nat.le_of_ble_eq_true rfl) ⟨by show _ + 1 ≤ 6 + (d + 1); omega, by show _ ≤ 200 + 60 * (d + 1); omega⟩ ⟨Nat.zero_le _, Nat.zero_le _⟩ dX4_writesFull_112 (fun h_116 hM hF1 => ?_)
                have hF := hF.tr hF1
                cases hf
                exact rb_vret C rfl (Nat.zero_le _) (Nat.zero_le _) dX4_writesFull_115 ⟨rfl, rfl, hM, hF⟩
              refine rb_if_ge (tgt := 102) C dX4_writesFull_95 (by decide) (fun c_104 => ?_) (fun c_104 => ?_)
              · have hf := (if_pos c_104).symm.trans hf
                refine rb_iload_n C dX4_writesFull_102 rfl 3 rfl ?_
                exact J_j103_105 v_3 hf
              · have hf := (if_neg c_104).symm.trans hf
                refine rb_iload_n C dX4_writesFull_98 rfl 1 rfl ?_
                refine rb_goto (tgt := 103) C dX4_writesFull_99 (by decide) ?_
                exact J_j103_105 x1 hf
            refine rb_if_ge (tgt := 88) C dX4_writesFull_81 (by decide) (fun c_96 => ?_) (fun c_96 => ?_)
            · have hf := (if_pos c_96).symm.trans hf
              refine rb_iload_n C dX4_writesFull_88 rfl 3 rfl ?_
              exact J_j89_97 v_3 hf
            · have hf := (if_neg c_96).symm.trans hf
              refine rb_iload_n C dX4_writesFull_84 rfl 1 rfl ?_
              refine rb_goto (tgt := 89) C dX4_writesFull_85 (by decide) ?_
              exact J_j89_97 x1 hf
          refine rb_if_lt (tgt := 75) C dX4_writesFull_66 (by decide) (fun c_94 => ?_) (fun c_94 => ?_)
          · have hf := (if_pos c_94).symm.trans hf
            refine rb_sub [1, 2, 3, 0] rfl ?_
            exact J_j75_95 S_90 A_91 h_92 hM hF hf
          · have hf := (if_neg c_94).symm.trans hf
            refine rb_aload_n C dX4_writesFull_69 rfl 1 rfl ?_
            refine rb_iload_n C dX4_writesFull_70 rfl 2 rfl ?_
            refine rb_iload_n C dX4_writesFull_71 rfl 0 rfl ?_
            obtain ⟨⟨S_120, A_121⟩, e_119, hf⟩ := rb_bd hf
            refine rb_zVMv C mi_X4_writesFull sv_X4_332 (IsC.of (Or.inl hM.1) ck_X4) (ih h_92 S_90 A_91 x1 v_3 _ _ hM e_119) (rest := []) rfl rfl (Nat.le_of_ble_eq_true rfl) ⟨by show _ + 1 ≤ 6 + (d + 1); omega, by show _ ≤ 200 + 60 * (d + 1); omega⟩ ⟨Nat.zero_le _, Nat.zero_le _⟩ dX4_writesFull_72 (fun h_122 hM hF1 => ?_)
            have hF := hF.tr hF1
            refine rb_sub [1, 2, 3, 0] rfl ?_
            exact J_j75_95 S_120 A_121 h_122 hM hF hf
        · have hf := (if_neg c_87).symm.trans hf
          refine rb_aload_n C dX4_writesFull_37 rfl 1 rfl ?_
          refine rb_get (v := .ref (a 17)) C fl_X4_33_X4 (Or.inl hM.1) rfl dX4_writesFull_38 ?_
          refine rb_iload_n C dX4_writesFull_41 rfl 2 rfl ?_
          by_cases c_g : (x1 < 0 ∨ 24 ≤ x1.toNatClampNeg)
          · exact absurd ((if_pos c_g).symm.trans hf) (fun z => by cases z)
          have hf := (if_neg c_g).symm.trans hf
          refine rb_iald (f := (A 17)) C (Or.inl (hM.2.1 17 rfl)) (rb_nN c_g) dX4_writesFull_42 ?_
          refine rb_bipush (v := 126) C dX4_writesFull_43 rfl ?_
          refine rb_icmp_eq (tgt := 59) C dX4_writesFull_45 (by decide) (fun c_124 => ?_) (fun c_124 => ?_)
          · have hf := (if_pos c_124).symm.trans hf
            refine rb_aload_n C dX4_writesFull_59 rfl 1 rfl ?_
            refine rb_bipush (v := 40) C dX4_writesFull_60 rfl ?_
            obtain ⟨⟨S_127, A_128⟩, e_126, hf⟩ := rb_bd hf
            refine rb_zVMv C mi_X4_writes sv_X4_335 (IsC.of (Or.inl hM.1) ck_X4) (ct_X4_writes Ev h n o a S A 40 _ _ hM e_126) (rest := []) rfl rfl (Nat.le_of_ble_eq_true rfl) ⟨by show _ + 1 ≤ 6 + (d + 1); omega, by show _ ≤ 200 + 60 * (d + 1); omega⟩ ⟨Nat.zero_le _, Nat.zero_le _⟩ dX4_writesFull_62 (fun h_129 hM hF1 => ?_)
            have hF := hF.tr hF1
            refine rb_iload_n C dX4_writesFull_65 rfl 0 rfl ?_
            have J_j75_132 : ∀  (S_j75_132 : Nat → Int32) (A_j75_132 : Nat → Nat → Int32) (h_j75_132 : AH), MD Ev h_j75_132 o a S_j75_132 A_j75_132 → mdFr h h_j75_132 o a → f_X4_writesFull_j75_132 x1 x2 (f_X4_writesFull d) v_3 S_j75_132 A_j75_132 = some (rS, rA) → Wa Ev X (rm_X4_writesFull (d + 1)) 4 h_j75_132 n 0 0 (rb_MQ Ev X (rm_X4_writesFull (d + 1)) (pMv Ev o a h n none rS rA)) 75 [(0, .ref o), (1, .int x1), (2, .int x2), (3, .int v_3)] [] := by
              intro  S_j75_132 A_j75_132 h_j75_132 hM hF hf
              rw [f_X4_writesFull_j75_132] at hf
              refine rb_aload_n C dX4_writesFull_75 rfl 0 rfl ?_
              refine rb_aload_n C dX4_writesFull_76 rfl 0 rfl ?_
              refine rb_get (v := .ref (a 17)) C fl_X4_33_X4 (Or.inl hM.1) rfl dX4_writesFull_77 ?_
              refine rb_iload_n C dX4_writesFull_80 rfl 3 rfl ?_
              have J_j89_134 : ∀ (w0_j89_134 : Int32), f_X4_writesFull_j89_134 x1 x2 (f_X4_writesFull d) v_3 S_j75_132 A_j75_132 w0_j89_134 = some (rS, rA) → Wa Ev X (rm_X4_writesFull (d + 1)) 4 h_j75_132 n 0 0 (rb_MQ Ev X (rm_X4_writesFull (d + 1)) (pMv Ev o a h n none rS rA)) 89 [(0, .ref o), (1, .int x1), (2, .int x2), (3, .int v_3)] [.int w0_j89_134, .ref (a 17), .ref o] := by
                intro w0_j89_134 hf
                rw [f_X4_writesFull_j89_134] at hf
                by_cases c_g : (w0_j89_134 < 0 ∨ 24 ≤ w0_j89_134.toNatClampNeg)
                · exact absurd ((if_pos c_g).symm.trans hf) (fun z => by cases z)
                have hf := (if_neg c_g).symm.trans hf
                refine rb_iald (f := (A_j75_132 17)) C (Or.inl (hM.2.1 17 rfl)) (rb_nN c_g) dX4_writesFull_89 ?_
                obtain ⟨⟨S_137, A_138⟩, e_136, hf⟩ := rb_bd hf
                refine rb_zVMv C mi_X4_writes sv_X4_335 (IsC.of (Or.inl hM.1) ck_X4) (ct_X4_writes Ev h_j75_132 n o a S_j75_132 A_j75_132 ((A_j75_132 17) w0_j89_134.toNatClampNeg) _ _ hM e_136) (rest := []) rfl rfl (Nat.le_of_ble_eq_true rfl) ⟨by show _ + 1 ≤ 6 + (d + 1); omega, by show _ ≤ 200 + 60 * (d + 1); omega⟩ ⟨Nat.zero_le _, Nat.zero_le _⟩ dX4_writesFull_90 (fun h_139 hM hF1 => ?_)
                have hF := hF.tr hF1
                refine rb_aload_n C dX4_writesFull_93 rfl 0 rfl ?_
                refine rb_iload_n C dX4_writesFull_94 rfl 3 rfl ?_
                have J_j103_142 : ∀ (w0_j103_142 : Int32), f_X4_writesFull_j103_142 x2 (f_X4_writesFull d) S_137 A_138 w0_j103_142 = some (rS, rA) → Wa Ev X (rm_X4_writesFull (d + 1)) 4 h_139 n 0 0 (rb_MQ Ev X (rm_X4_writesFull (d + 1)) (pMv Ev o a h n none rS rA)) 103 [(0, .ref o), (1, .int x1), (2, .int x2), (3, .int v_3)] [.int w0_j103_142, .ref o] := by
                  intro w0_j103_142 hf
                  rw [f_X4_writesFull_j103_142] at hf
                  refine rb_iconst (v := 1) C dX4_writesFull_103 rfl ?_
                  refine rb_iadd C dX4_writesFull_104 ?_
                  refine rb_iload_n C dX4_writesFull_105 rfl 2 rfl ?_
                  obtain ⟨⟨S_145, A_146⟩, e_144, hf⟩ := rb_bd hf
                  refine rb_zVMv C mi_X4_writesFull sv_X4_332 (IsC.of (Or.inl hM.1) ck_X4) (ih h_139 S_137 A_138 (w0_j103_142 + 1) x2 _ _ hM e_144) (rest := []) rfl rfl (Nat.le_of_ble_eq_true rfl) ⟨by show _ + 1 ≤ 6 + (d + 1); omega, by show _ ≤ 200 + 60 * (d + 1); omega⟩ ⟨Nat.zero_le _, Nat.zero_le _⟩ dX4_writesFull_106 (fun h_147 hM hF1 => ?_)
                  have hF := hF.tr hF1
                  refine rb_aload_n C dX4_writesFull_109 rfl 0 rfl ?_
                  refine rb_bipush (v := 41) C dX4_writesFull_110 rfl ?_
                  obtain ⟨⟨S_151, A_152⟩, e_150, hf⟩ := rb_bd hf
                  refine rb_zVMv C mi_X4_writes sv_X4_335 (IsC.of (Or.inl hM.1) ck_X4) (ct_X4_writes Ev h_147 n o a S_145 A_146 41 _ _ hM e_150) (rest := []) rfl rfl (Nat.le_of_ble_eq_true rfl) ⟨by show _ + 1 ≤ 6 + (d + 1); omega, by show _ ≤ 200 + 60 * (d + 1); omega⟩ ⟨Nat.zero_le _, Nat.zero_le _⟩ dX4_writesFull_112 (fun h_153 hM hF1 => ?_)
                  have hF := hF.tr hF1
                  cases hf
                  exact rb_vret C rfl (Nat.zero_le _) (Nat.zero_le _) dX4_writesFull_115 ⟨rfl, rfl, hM, hF⟩
                refine rb_if_ge (tgt := 102) C dX4_writesFull_95 (by decide) (fun c_141 => ?_) (fun c_141 => ?_)
                · have hf := (if_pos c_141).symm.trans hf
                  refine rb_iload_n C dX4_writesFull_102 rfl 3 rfl ?_
                  exact J_j103_142 v_3 hf
                · have hf := (if_neg c_141).symm.trans hf
                  refine rb_iload_n C dX4_writesFull_98 rfl 1 rfl ?_
                  refine rb_goto (tgt := 103) C dX4_writesFull_99 (by decide) ?_
                  exact J_j103_142 x1 hf
              refine rb_if_ge (tgt := 88) C dX4_writesFull_81 (by decide) (fun c_133 => ?_) (fun c_133 => ?_)
              · have hf := (if_pos c_133).symm.trans hf
                refine rb_iload_n C dX4_writesFull_88 rfl 3 rfl ?_
                exact J_j89_134 v_3 hf
              · have hf := (if_neg c_133).symm.trans hf
                refine rb_iload_n C dX4_writesFull_84 rfl 1 rfl ?_
                refine rb_goto (tgt := 89) C dX4_writesFull_85 (by decide) ?_
                exact J_j89_134 x1 hf
            refine rb_if_lt (tgt := 75) C dX4_writesFull_66 (by decide) (fun c_131 => ?_) (fun c_131 => ?_)
            · have hf := (if_pos c_131).symm.trans hf
              refine rb_sub [1, 2, 3, 0] rfl ?_
              exact J_j75_132 S_127 A_128 h_129 hM hF hf
            · have hf := (if_neg c_131).symm.trans hf
              refine rb_aload_n C dX4_writesFull_69 rfl 1 rfl ?_
              refine rb_iload_n C dX4_writesFull_70 rfl 2 rfl ?_
              refine rb_iload_n C dX4_writesFull_71 rfl 0 rfl ?_
              obtain ⟨⟨S_157, A_158⟩, e_156, hf⟩ := rb_bd hf
              refine rb_zVMv C mi_X4_writesFull sv_X4_332 (IsC.of (Or.inl hM.1) ck_X4) (ih h_129 S_127 A_128 x1 v_3 _ _ hM e_156) (rest := []) rfl rfl (Nat.le_of_ble_eq_true rfl) ⟨by show _ + 1 ≤ 6 + (d + 1); omega, by show _ ≤ 200 + 60 * (d + 1); omega⟩ ⟨Nat.zero_le _, Nat.zero_le _⟩ dX4_writesFull_72 (fun h_159 hM hF1 => ?_)
              have hF := hF.tr hF1
              refine rb_sub [1, 2, 3, 0] rfl ?_
              exact J_j75_132 S_157 A_158 h_159 hM hF hf
          · have hf := (if_neg c_124).symm.trans hf
            refine rb_aload_n C dX4_writesFull_48 rfl 1 rfl ?_
            refine rb_aload_n C dX4_writesFull_49 rfl 1 rfl ?_
            refine rb_get (v := .ref (a 17)) C fl_X4_33_X4 (Or.inl hM.1) rfl dX4_writesFull_50 ?_
            refine rb_iload_n C dX4_writesFull_53 rfl 2 rfl ?_
            by_cases c_g : (x1 < 0 ∨ 24 ≤ x1.toNatClampNeg)
            · exact absurd ((if_pos c_g).symm.trans hf) (fun z => by cases z)
            have hf := (if_neg c_g).symm.trans hf
            refine rb_iald (f := (A 17)) C (Or.inl (hM.2.1 17 rfl)) (rb_nN c_g) dX4_writesFull_54 ?_
            obtain ⟨⟨S_163, A_164⟩, e_162, hf⟩ := rb_bd hf
            refine rb_zVMv C mi_X4_writes sv_X4_335 (IsC.of (Or.inl hM.1) ck_X4) (ct_X4_writes Ev h n o a S A ((A 17) x1.toNatClampNeg) _ _ hM e_162) (rest := []) rfl rfl (Nat.le_of_ble_eq_true rfl) ⟨by show _ + 1 ≤ 6 + (d + 1); omega, by show _ ≤ 200 + 60 * (d + 1); omega⟩ ⟨Nat.zero_le _, Nat.zero_le _⟩ dX4_writesFull_55 (fun h_165 hM hF1 => ?_)
            have hF := hF.tr hF1
            cases hf
            exact rb_vret C rfl (Nat.zero_le _) (Nat.zero_le _) dX4_writesFull_58 ⟨rfl, rfl, hM, hF⟩
      · have hf := (if_pos c_86).symm.trans hf
        refine rb_aload_n C dX4_writesFull_22 rfl 1 rfl ?_
        refine rb_iload_n C dX4_writesFull_23 rfl 2 rfl ?_
        refine rb_iconst (v := 1) C dX4_writesFull_24 rfl ?_
        refine rb_iadd C dX4_writesFull_25 ?_
        refine rb_iload_n C dX4_writesFull_26 rfl 3 rfl ?_
        refine rb_iconst (v := 1) C dX4_writesFull_27 rfl ?_
        refine rb_isub C dX4_writesFull_28 ?_
        obtain ⟨⟨S_169, A_170⟩, e_168, hf⟩ := rb_bd hf
        refine rb_zVMv C mi_X4_writesFull sv_X4_332 (IsC.of (Or.inl hM.1) ck_X4) (ih h S A (x1 + 1) (x2 - 1) _ _ hM e_168) (rest := []) rfl rfl (Nat.le_of_ble_eq_true rfl) ⟨by show _ + 1 ≤ 6 + (d + 1); omega, by show _ ≤ 200 + 60 * (d + 1); omega⟩ ⟨Nat.zero_le _, Nat.zero_le _⟩ dX4_writesFull_29 (fun h_171 hM hF1 => ?_)
        have hF := hF.tr hF1
        cases hf
        exact rb_vret C rfl (Nat.zero_le _) (Nat.zero_le _) dX4_writesFull_32 ⟨rfl, rfl, hM, hF⟩
def f_X4_writeFull (S : Nat → Int32) (A : Nat → Nat → Int32) : Option (Int32 × (Nat → Int32) × (Nat → Nat → Int32)) := ((f_X4_isDraft S A ).bind fun (v_6, S_3, A_4) => (if v_6 = 0 then (some (0, S_3, A_4)) else ((f_X4_writesFull 30 (upd S_3 16 0) A_4 0 (S_3 19)).bind fun (S_12, A_13) => (some ((S_12 16), S_12, A_13)))))
abbrev rm_X4_writeFull : Room := { frames := 37, cells := 0, slots := 0, locals := 2023 }
set_option maxHeartbeats 4000000 in
theorem ct_X4_writeFull (Ev : rb_E) (h : AH) (n : Nat) (o : Nat) (a : Nat → Nat) (S : Nat → Int32) (A : Nat → Nat → Int32)  (rv : Int32) (rS : Nat → Int32) (rA : Nat → Nat → Int32) (hM : MD Ev h o a S A) (hf : f_X4_writeFull S A = some (rv, rS, rA)) : Ct Ev yX4_writeFull (ws_ yX4_writeFull cX4_writeFull 1 (some .int)) rm_X4_writeFull [.ref o] h n (pM Ev .int o a h n rv rS rA) := by
  refine Ct.of rfl (Nat.le_of_ble_eq_true rfl) fun X C hnm => ?_
  have C : Cx Ev X RX4 cX4_writeFull 1 (some .int) [] := C
  show Wa Ev X rm_X4_writeFull 1 h n 0 0 (rb_MQ Ev X rm_X4_writeFull (pM Ev .int o a h n rv rS rA)) 0 [(0, .ref o)] []
  have hF : mdFr h h o a := mdFr.rf
  rw [f_X4_writeFull] at hf
  refine rb_aload_n C dX4_writeFull_0 rfl 0 rfl ?_
  obtain ⟨⟨v_6, S_3, A_4⟩, e_2, hf⟩ := rb_bd hf
  refine rb_zVM C mi_X4_isDraft sv_X4_185 (IsC.of (Or.inl hM.1) ck_X4) (ct_X4_isDraft Ev h n o a S A  _ _ _ hM e_2) (rest := []) rfl rfl (Nat.le_of_ble_eq_true rfl) ⟨Nat.le_of_ble_eq_true rfl, Nat.le_of_ble_eq_true rfl⟩ ⟨Nat.zero_le _, Nat.zero_le _⟩ dX4_writeFull_1 (fun h_5 hM hF1 hn_7 => ?_)
  have hF := hF.tr hF1
  refine rb_if_ne (tgt := 9) C dX4_writeFull_4 (by decide) (fun c_8 => ?_) (fun c_8 => ?_)
  · have hf := (if_neg c_8).symm.trans hf
    refine rb_aload_n C dX4_writeFull_9 rfl 0 rfl ?_
    refine rb_iconst (v := 0) C dX4_writeFull_10 rfl ?_
    refine rb_put (v := .int 0) C fw_X4_329_X4 hM.1 rfl rfl (Nat.le_of_ble_eq_true rfl) dX4_writeFull_11 (fun h_9 e1 e2 => ?_)
    have hM : MD Ev h_9 o a (upd S_3 16 0) A_4 := hM.put e1 e2 rfl
    have hF := hF.put e2
    refine rb_aload_n C dX4_writeFull_14 rfl 0 rfl ?_
    refine rb_iconst (v := 0) C dX4_writeFull_15 rfl ?_
    refine rb_aload_n C dX4_writeFull_16 rfl 0 rfl ?_
    refine rb_get (v := .int (S_3 19)) C fl_X4_161_X4 (Or.inl hM.1) rfl dX4_writeFull_17 ?_
    obtain ⟨⟨S_12, A_13⟩, e_11, hf⟩ := rb_bd hf
    refine rb_zVMv C mi_X4_writesFull sv_X4_332 (IsC.of (Or.inl hM.1) ck_X4) (ct_X4_writesFull Ev h_9 n 30 o a (upd S_3 16 0) A_4 0 (S_3 19) _ _ hM e_11) (rest := []) rfl rfl (Nat.le_of_ble_eq_true rfl) ⟨Nat.le_of_ble_eq_true rfl, Nat.le_of_ble_eq_true rfl⟩ ⟨Nat.zero_le _, Nat.zero_le _⟩ dX4_writeFull_20 (fun h_14 hM hF1 => ?_)
    have hF := hF.tr hF1
    refine rb_aload_n C dX4_writeFull_23 rfl 0 rfl ?_
    refine rb_get (v := .int (S_12 16)) C fl_X4_329_X4 (Or.inl hM.1) rfl dX4_writeFull_24 ?_
    cases hf
    exact rb_iret C rfl rfl (Nat.zero_le _) (Nat.zero_le _) dX4_writeFull_27 ⟨rfl, rfl, hM, hF, rfl⟩
  · have hf := (if_pos c_8).symm.trans hf
    refine rb_iconst (v := 0) C dX4_writeFull_7 rfl ?_
    cases hf
    exact rb_iret C rfl rfl (Nat.zero_le _) (Nat.zero_le _) dX4_writeFull_8 ⟨rfl, rfl, hM, hF, rfl⟩
def f_X4_writeShort_l56_18  : Nat → Int32 → (Nat → Int32) → (Nat → Nat → Int32) → Option (Int32 × (Nat → Int32) × (Nat → Nat → Int32))
  | 0, _, _, _ => none
  | k_l56_18 + 1, y2_l56_18, S_l56_18, A_l56_18 => (if (S_l56_18 19) ≤ y2_l56_18 then (some ((S_l56_18 16), S_l56_18, A_l56_18)) else if (y2_l56_18 < 0 ∨ 24 ≤ y2_l56_18.toNatClampNeg) then none else ((f_X4_writes S_l56_18 A_l56_18 ((A_l56_18 17) y2_l56_18.toNatClampNeg)).bind fun (S_22, A_23) => ((f_X4_writeShort_l56_18  k_l56_18) (y2_l56_18 + 1) S_22 A_23)))
def f_X4_writeShort_l15_15  : Nat → Int32 → (Nat → Int32) → (Nat → Nat → Int32) → Option (Int32 × (Nat → Int32) × (Nat → Nat → Int32))
  | 0, _, _, _ => none
  | k_l15_15 + 1, y1_l15_15, S_l15_15, A_l15_15 => (if (S_l15_15 19) ≤ y1_l15_15 then (f_X4_writeShort_l56_18  4096 0 (upd S_l15_15 16 0) A_l15_15) else if (y1_l15_15 < 0 ∨ 24 ≤ y1_l15_15.toNatClampNeg) then none else (if ((A_l15_15 17) y1_l15_15.toNatClampNeg) = 40 then ((f_X4_isIdle S_l15_15 A_l15_15 y1_l15_15 1).bind fun (v_32, S_29, A_30) => (if v_32 = 0 then ((f_X4_writeShort_l15_15  k_l15_15) (y1_l15_15 + 1) S_29 A_30) else ((f_X4_writeShort_l15_15  k_l15_15) y1_l15_15 S_29 A_30))) else ((f_X4_writeShort_l15_15  k_l15_15) (y1_l15_15 + 1) S_l15_15 A_l15_15)))
def f_X4_writeShort (S : Nat → Int32) (A : Nat → Nat → Int32) : Option (Int32 × (Nat → Int32) × (Nat → Nat → Int32)) := ((f_X4_isDraft S A ).bind fun (v_6, S_3, A_4) => (if v_6 = 0 then (some (0, S_3, A_4)) else ((f_X4_remembers S_3 A_4 ).bind fun (S_11, A_12) => (f_X4_writeShort_l15_15  4096 0 S_11 A_12))))
abbrev rm_X4_writeShort : Room := { frames := 40, cells := 0, slots := 0, locals := 2091 }
set_option maxHeartbeats 4000000 in
theorem ct_X4_writeShort (Ev : rb_E) (h : AH) (n : Nat) (o : Nat) (a : Nat → Nat) (S : Nat → Int32) (A : Nat → Nat → Int32)  (rv : Int32) (rS : Nat → Int32) (rA : Nat → Nat → Int32) (hM : MD Ev h o a S A) (hf : f_X4_writeShort S A = some (rv, rS, rA)) : Ct Ev yX4_writeShort (ws_ yX4_writeShort cX4_writeShort 3 (some .int)) rm_X4_writeShort [.ref o] h n (pM Ev .int o a h n rv rS rA) := by
  refine Ct.of rfl (Nat.le_of_ble_eq_true rfl) fun X C hnm => ?_
  have C : Cx Ev X RX4 cX4_writeShort 3 (some .int) [] := C
  show Wa Ev X rm_X4_writeShort 3 h n 0 0 (rb_MQ Ev X rm_X4_writeShort (pM Ev .int o a h n rv rS rA)) 0 [(0, .ref o)] []
  have hF : mdFr h h o a := mdFr.rf
  rw [f_X4_writeShort] at hf
  refine rb_aload_n C dX4_writeShort_0 rfl 0 rfl ?_
  obtain ⟨⟨v_6, S_3, A_4⟩, e_2, hf⟩ := rb_bd hf
  refine rb_zVM C mi_X4_isDraft sv_X4_185 (IsC.of (Or.inl hM.1) ck_X4) (ct_X4_isDraft Ev h n o a S A  _ _ _ hM e_2) (rest := []) rfl rfl (Nat.le_of_ble_eq_true rfl) ⟨Nat.le_of_ble_eq_true rfl, Nat.le_of_ble_eq_true rfl⟩ ⟨Nat.zero_le _, Nat.zero_le _⟩ dX4_writeShort_1 (fun h_5 hM hF1 hn_7 => ?_)
  have hF := hF.tr hF1
  refine rb_if_ne (tgt := 9) C dX4_writeShort_4 (by decide) (fun c_8 => ?_) (fun c_8 => ?_)
  · have hf := (if_neg c_8).symm.trans hf
    refine rb_aload_n C dX4_writeShort_9 rfl 0 rfl ?_
    obtain ⟨⟨S_11, A_12⟩, e_10, hf⟩ := rb_bd hf
    refine rb_zVMv C mi_X4_remembers sv_X4_213 (IsC.of (Or.inl hM.1) ck_X4) (ct_X4_remembers Ev h_5 n o a S_3 A_4  _ _ hM e_10) (rest := []) rfl rfl (Nat.le_of_ble_eq_true rfl) ⟨Nat.le_of_ble_eq_true rfl, Nat.le_of_ble_eq_true rfl⟩ ⟨Nat.zero_le _, Nat.zero_le _⟩ dX4_writeShort_10 (fun h_13 hM hF1 => ?_)
    have hF := hF.tr hF1
    refine rb_iconst (v := 0) C dX4_writeShort_13 rfl ?_
    refine rb_istore_n (lv' := [(1, .int 0), (0, .ref o)]) C dX4_writeShort_14 rfl (by decide) rfl ?_
    have L_l15_15 : ∀ (k_l15_15 : Nat) (y1_l15_15 : Int32) (S_l15_15 : Nat → Int32) (A_l15_15 : Nat → Nat → Int32) (h_l15_15 : AH), MD Ev h_l15_15 o a S_l15_15 A_l15_15 → mdFr h h_l15_15 o a → f_X4_writeShort_l15_15  k_l15_15 y1_l15_15 S_l15_15 A_l15_15 = some (rv, rS, rA) → Wa Ev X rm_X4_writeShort 3 h_l15_15 n 0 0 (rb_MQ Ev X rm_X4_writeShort (pM Ev .int o a h n rv rS rA)) 15 [(0, .ref o), (1, .int y1_l15_15)] [] := by
      intro k_l15_15
      induction k_l15_15 with
      | zero => intro y1_l15_15 S_l15_15 A_l15_15 h_l15_15 hM hF hf; cases hf
      | succ k_l15_15 ih_l15_15 =>
        intro y1_l15_15 S_l15_15 A_l15_15 h_l15_15 hM hF hf
        rw [f_X4_writeShort_l15_15] at hf
        refine rb_iload_n C dX4_writeShort_15 rfl 1 rfl ?_
        refine rb_aload_n C dX4_writeShort_16 rfl 0 rfl ?_
        refine rb_get (v := .int (S_l15_15 19)) C fl_X4_161_X4 (Or.inl hM.1) rfl dX4_writeShort_17 ?_
        refine rb_icmp_ge (tgt := 49) C dX4_writeShort_20 (by decide) (fun c_16 => ?_) (fun c_16 => ?_)
        · have hf := (if_pos c_16).symm.trans hf
          refine rb_aload_n C dX4_writeShort_49 rfl 0 rfl ?_
          refine rb_iconst (v := 0) C dX4_writeShort_50 rfl ?_
          refine rb_put (v := .int 0) C fw_X4_329_X4 hM.1 rfl rfl (Nat.le_of_ble_eq_true rfl) dX4_writeShort_51 (fun h_17 e1 e2 => ?_)
          have hM : MD Ev h_17 o a (upd S_l15_15 16 0) A_l15_15 := hM.put e1 e2 rfl
          have hF := hF.put e2
          refine rb_iconst (v := 0) C dX4_writeShort_54 rfl ?_
          refine rb_istore_n (lv' := [(2, .int 0), (0, .ref o), (1, .int y1_l15_15)]) C dX4_writeShort_55 rfl (by decide) rfl ?_
          have L_l56_18 : ∀ (k_l56_18 : Nat) (y2_l56_18 : Int32) (S_l56_18 : Nat → Int32) (A_l56_18 : Nat → Nat → Int32) (h_l56_18 : AH), MD Ev h_l56_18 o a S_l56_18 A_l56_18 → mdFr h h_l56_18 o a → f_X4_writeShort_l56_18  k_l56_18 y2_l56_18 S_l56_18 A_l56_18 = some (rv, rS, rA) → Wa Ev X rm_X4_writeShort 3 h_l56_18 n 0 0 (rb_MQ Ev X rm_X4_writeShort (pM Ev .int o a h n rv rS rA)) 56 [(0, .ref o), (1, .int y1_l15_15), (2, .int y2_l56_18)] [] := by
            intro k_l56_18
            induction k_l56_18 with
            | zero => intro y2_l56_18 S_l56_18 A_l56_18 h_l56_18 hM hF hf; cases hf
            | succ k_l56_18 ih_l56_18 =>
              intro y2_l56_18 S_l56_18 A_l56_18 h_l56_18 hM hF hf
              rw [f_X4_writeShort_l56_18] at hf
              refine rb_iload_n C dX4_writeShort_56 rfl 2 rfl ?_
              refine rb_aload_n C dX4_writeShort_57 rfl 0 rfl ?_
              refine rb_get (v := .int (S_l56_18 19)) C fl_X4_161_X4 (Or.inl hM.1) rfl dX4_writeShort_58 ?_
              refine rb_icmp_ge (tgt := 80) C dX4_writeShort_61 (by decide) (fun c_19 => ?_) (fun c_19 => ?_)
              · have hf := (if_pos c_19).symm.trans hf
                refine rb_aload_n C dX4_writeShort_80 rfl 0 rfl ?_
                refine rb_get (v := .int (S_l56_18 16)) C fl_X4_329_X4 (Or.inl hM.1) rfl dX4_writeShort_81 ?_
                cases hf
                exact rb_iret C rfl rfl (Nat.zero_le _) (Nat.zero_le _) dX4_writeShort_84 ⟨rfl, rfl, hM, hF, rfl⟩
              · have hf := (if_neg c_19).symm.trans hf
                refine rb_aload_n C dX4_writeShort_64 rfl 0 rfl ?_
                refine rb_aload_n C dX4_writeShort_65 rfl 0 rfl ?_
                refine rb_get (v := .ref (a 17)) C fl_X4_33_X4 (Or.inl hM.1) rfl dX4_writeShort_66 ?_
                refine rb_iload_n C dX4_writeShort_69 rfl 2 rfl ?_
                by_cases c_g : (y2_l56_18 < 0 ∨ 24 ≤ y2_l56_18.toNatClampNeg)
                · exact absurd ((if_pos c_g).symm.trans hf) (fun z => by cases z)
                have hf := (if_neg c_g).symm.trans hf
                refine rb_iald (f := (A_l56_18 17)) C (Or.inl (hM.2.1 17 rfl)) (rb_nN c_g) dX4_writeShort_70 ?_
                obtain ⟨⟨S_22, A_23⟩, e_21, hf⟩ := rb_bd hf
                refine rb_zVMv C mi_X4_writes sv_X4_335 (IsC.of (Or.inl hM.1) ck_X4) (ct_X4_writes Ev h_l56_18 n o a S_l56_18 A_l56_18 ((A_l56_18 17) y2_l56_18.toNatClampNeg) _ _ hM e_21) (rest := []) rfl rfl (Nat.le_of_ble_eq_true rfl) ⟨Nat.le_of_ble_eq_true rfl, Nat.le_of_ble_eq_true rfl⟩ ⟨Nat.zero_le _, Nat.zero_le _⟩ dX4_writeShort_71 (fun h_24 hM hF1 => ?_)
                have hF := hF.tr hF1
                refine rb_iinc (v := (y2_l56_18 + 1)) (lv' := [(2, .int (y2_l56_18 + 1)), (0, .ref o), (1, .int y1_l15_15)]) C dX4_writeShort_74 (k := 2) rfl rfl (by decide) rfl ?_
                refine rb_goto (tgt := 56) C dX4_writeShort_77 (by decide) ?_
                refine rb_sub [1, 2, 0] rfl ?_
                exact ih_l56_18 (y2_l56_18 + 1) S_22 A_23 h_24 hM hF hf
          refine rb_sub [1, 2, 0] rfl ?_
          exact L_l56_18 4096 0 (upd S_l15_15 16 0) A_l15_15 h_17 hM hF hf
        · have hf := (if_neg c_16).symm.trans hf
          refine rb_aload_n C dX4_writeShort_23 rfl 0 rfl ?_
          refine rb_get (v := .ref (a 17)) C fl_X4_33_X4 (Or.inl hM.1) rfl dX4_writeShort_24 ?_
          refine rb_iload_n C dX4_writeShort_27 rfl 1 rfl ?_
          by_cases c_g : (y1_l15_15 < 0 ∨ 24 ≤ y1_l15_15.toNatClampNeg)
          · exact absurd ((if_pos c_g).symm.trans hf) (fun z => by cases z)
          have hf := (if_neg c_g).symm.trans hf
          refine rb_iald (f := (A_l15_15 17)) C (Or.inl (hM.2.1 17 rfl)) (rb_nN c_g) dX4_writeShort_28 ?_
          refine rb_bipush (v := 40) C dX4_writeShort_29 rfl ?_
          refine rb_icmp_ne (tgt := 43) C dX4_writeShort_31 (by decide) (fun c_26 => ?_) (fun c_26 => ?_)
          · have hf := (if_neg c_26).symm.trans hf
            refine rb_iinc (v := (y1_l15_15 + 1)) (lv' := [(1, .int (y1_l15_15 + 1)), (0, .ref o)]) C dX4_writeShort_43 (k := 1) rfl rfl (by decide) rfl ?_
            refine rb_goto (tgt := 15) C dX4_writeShort_46 (by decide) ?_
            refine rb_sub [1, 0] rfl ?_
            exact ih_l15_15 (y1_l15_15 + 1) S_l15_15 A_l15_15 h_l15_15 hM hF hf
          · have hf := (if_pos c_26).symm.trans hf
            refine rb_aload_n C dX4_writeShort_34 rfl 0 rfl ?_
            refine rb_iload_n C dX4_writeShort_35 rfl 1 rfl ?_
            refine rb_iconst (v := 1) C dX4_writeShort_36 rfl ?_
            obtain ⟨⟨v_32, S_29, A_30⟩, e_28, hf⟩ := rb_bd hf
            refine rb_zVM C mi_X4_isIdle sv_X4_216 (IsC.of (Or.inl hM.1) ck_X4) (ct_X4_isIdle Ev h_l15_15 n o a S_l15_15 A_l15_15 y1_l15_15 1 _ _ _ hM e_28) (rest := []) rfl rfl (Nat.le_of_ble_eq_true rfl) ⟨Nat.le_of_ble_eq_true rfl, Nat.le_of_ble_eq_true rfl⟩ ⟨Nat.zero_le _, Nat.zero_le _⟩ dX4_writeShort_37 (fun h_31 hM hF1 hn_33 => ?_)
            have hF := hF.tr hF1
            refine rb_if_ne (tgt := 15) C dX4_writeShort_40 (by decide) (fun c_34 => ?_) (fun c_34 => ?_)
            · have hf := (if_neg c_34).symm.trans hf
              exact ih_l15_15 y1_l15_15 S_29 A_30 h_31 hM hF hf
            · have hf := (if_pos c_34).symm.trans hf
              refine rb_iinc (v := (y1_l15_15 + 1)) (lv' := [(1, .int (y1_l15_15 + 1)), (0, .ref o)]) C dX4_writeShort_43 (k := 1) rfl rfl (by decide) rfl ?_
              refine rb_goto (tgt := 15) C dX4_writeShort_46 (by decide) ?_
              refine rb_sub [1, 0] rfl ?_
              exact ih_l15_15 (y1_l15_15 + 1) S_29 A_30 h_31 hM hF hf
    refine rb_sub [1, 0] rfl ?_
    exact L_l15_15 4096 0 S_11 A_12 h_13 hM hF hf
  · have hf := (if_pos c_8).symm.trans hf
    refine rb_iconst (v := 0) C dX4_writeShort_7 rfl ?_
    cases hf
    exact rb_iret C rfl rfl (Nat.zero_le _) (Nat.zero_le _) dX4_writeShort_8 ⟨rfl, rfl, hM, hF, rfl⟩
def f_X4_lineCharacter_j20_3 (x1 : Int32) (S : Nat → Int32) (A : Nat → Nat → Int32) (w0_j20_3 : Int32) : Option (Int32 × (Nat → Int32) × (Nat → Nat → Int32)) := ((f_X4_fails S A w0_j20_3).bind fun (v_9, S_6, A_7) => (if v_9 = 0 then if (x1 < 0 ∨ 80 ≤ x1.toNatClampNeg) then none else (if narrow .char (.int ((A_7 15) x1.toNatClampNeg)) = .int ((A_7 15) x1.toNatClampNeg) then (some (((A_7 15) x1.toNatClampNeg), S_6, A_7)) else none) else (some (32, S_6, A_7))))
def f_X4_lineCharacter (S : Nat → Int32) (A : Nat → Nat → Int32) (x1 : Int32) : Option (Int32 × (Nat → Int32) × (Nat → Nat → Int32)) := (if (f_X4_in x1 0 ((S 16) - 1)) = 0 then (f_X4_lineCharacter_j20_3 x1 S A 1) else (f_X4_lineCharacter_j20_3 x1 S A 0))
abbrev rm_X4_lineCharacter : Room := { frames := 1, cells := 0, slots := 0, locals := 22 }
set_option maxHeartbeats 4000000 in
theorem ct_X4_lineCharacter (Ev : rb_E) (h : AH) (n : Nat) (o : Nat) (a : Nat → Nat) (S : Nat → Int32) (A : Nat → Nat → Int32) (x1 : Int32) (rv : Int32) (rS : Nat → Int32) (rA : Nat → Nat → Int32) (hM : MD Ev h o a S A) (hf : f_X4_lineCharacter S A x1 = some (rv, rS, rA)) : Ct Ev yX4_lineCharacter (ws_ yX4_lineCharacter cX4_lineCharacter 2 (some .char)) rm_X4_lineCharacter [.ref o, .int x1] h n (pM Ev .char o a h n rv rS rA) := by
  refine Ct.of rfl (Nat.le_of_ble_eq_true rfl) fun X C hnm => ?_
  have C : Cx Ev X RX4 cX4_lineCharacter 2 (some .char) [] := C
  show Wa Ev X rm_X4_lineCharacter 2 h n 0 0 (rb_MQ Ev X rm_X4_lineCharacter (pM Ev .char o a h n rv rS rA)) 0 [(0, .ref o), (1, .int x1)] []
  have hF : mdFr h h o a := mdFr.rf
  rw [f_X4_lineCharacter] at hf
  refine rb_aload_n C dX4_lineCharacter_0 rfl 0 rfl ?_
  refine rb_iload_n C dX4_lineCharacter_1 rfl 1 rfl ?_
  refine rb_iconst (v := 0) C dX4_lineCharacter_2 rfl ?_
  refine rb_aload_n C dX4_lineCharacter_3 rfl 0 rfl ?_
  refine rb_get (v := .int (S 16)) C fl_X4_329_X4 (Or.inl hM.1) rfl dX4_lineCharacter_4 ?_
  refine rb_iconst (v := 1) C dX4_lineCharacter_7 rfl ?_
  refine rb_isub C dX4_lineCharacter_8 ?_
  refine rb_zSR C mi_X4_in ss_X4_103 (ct_X4_in Ev h n x1 0 ((S 16) - 1) _ rfl) (rest := [.ref o]) rfl rfl (Nat.le_of_ble_eq_true rfl) ⟨Nat.le_of_ble_eq_true rfl, Nat.le_of_ble_eq_true rfl⟩ ⟨Nat.zero_le _, Nat.zero_le _⟩ dX4_lineCharacter_9 (fun hn_1 => ?_)
  have J_j20_3 : ∀ (w0_j20_3 : Int32), f_X4_lineCharacter_j20_3 x1 S A w0_j20_3 = some (rv, rS, rA) → Wa Ev X rm_X4_lineCharacter 2 h n 0 0 (rb_MQ Ev X rm_X4_lineCharacter (pM Ev .char o a h n rv rS rA)) 20 [(0, .ref o), (1, .int x1)] [.int w0_j20_3, .ref o] := by
    intro w0_j20_3 hf
    rw [f_X4_lineCharacter_j20_3] at hf
    obtain ⟨⟨v_9, S_6, A_7⟩, e_5, hf⟩ := rb_bd hf
    refine rb_zVM C mi_X4_fails sv_X4_123 (IsC.of (Or.inl hM.1) ck_X4) (ct_X4_fails Ev h n o a S A w0_j20_3 _ _ _ hM e_5) (rest := []) rfl rfl (Nat.le_of_ble_eq_true rfl) ⟨Nat.le_of_ble_eq_true rfl, Nat.le_of_ble_eq_true rfl⟩ ⟨Nat.zero_le _, Nat.zero_le _⟩ dX4_lineCharacter_20 (fun h_8 hM hF1 hn_10 => ?_)
    have hF := hF.tr hF1
    refine rb_if_eq (tgt := 31) C dX4_lineCharacter_23 (by decide) (fun c_11 => ?_) (fun c_11 => ?_)
    · have hf := (if_pos c_11).symm.trans hf
      refine rb_aload_n C dX4_lineCharacter_31 rfl 0 rfl ?_
      refine rb_get (v := .ref (a 15)) C fl_X4_29_X4 (Or.inl hM.1) rfl dX4_lineCharacter_32 ?_
      refine rb_iload_n C dX4_lineCharacter_35 rfl 1 rfl ?_
      by_cases c_g : (x1 < 0 ∨ 80 ≤ x1.toNatClampNeg)
      · exact absurd ((if_pos c_g).symm.trans hf) (fun z => by cases z)
      have hf := (if_neg c_g).symm.trans hf
      refine rb_cald (f := (A_7 15)) C (Or.inl (hM.2.1 15 rfl)) (rb_nN c_g) dX4_lineCharacter_36 ?_
      by_cases c_n : narrow .char (.int ((A_7 15) x1.toNatClampNeg)) = .int ((A_7 15) x1.toNatClampNeg)
      · have hf := (if_pos c_n).symm.trans hf
        cases hf
        exact rb_iret C rfl c_n (Nat.zero_le _) (Nat.zero_le _) dX4_lineCharacter_37 ⟨rfl, rfl, hM, hF, c_n⟩
      · exact absurd ((if_neg c_n).symm.trans hf) (fun z => by cases z)
    · have hf := (if_neg c_11).symm.trans hf
      refine rb_bipush (v := 32) C dX4_lineCharacter_26 rfl ?_
      refine rb_goto (tgt := 37) C dX4_lineCharacter_28 (by decide) ?_
      cases hf
      exact rb_iret C rfl rfl (Nat.zero_le _) (Nat.zero_le _) dX4_lineCharacter_37 ⟨rfl, rfl, hM, hF, rfl⟩
  refine rb_if_eq (tgt := 19) C dX4_lineCharacter_12 (by decide) (fun c_2 => ?_) (fun c_2 => ?_)
  · have hf := (if_pos c_2).symm.trans hf
    refine rb_iconst (v := 1) C dX4_lineCharacter_19 rfl ?_
    exact J_j20_3 1 hf
  · have hf := (if_neg c_2).symm.trans hf
    refine rb_iconst (v := 0) C dX4_lineCharacter_15 rfl ?_
    refine rb_goto (tgt := 20) C dX4_lineCharacter_16 (by decide) ?_
    exact J_j20_3 0 hf
def f_X4_denial_j13_2 (S : Nat → Int32) (A : Nat → Nat → Int32) (w0_j13_2 : Int32) : Option (Int32 × (Nat → Int32) × (Nat → Nat → Int32)) := ((f_X4_fails S A w0_j13_2).bind fun (v_8, S_5, A_6) => (if v_8 = 0 then (some ((S_5 9), S_5, A_6)) else (some (0, S_5, A_6))))
def f_X4_denial (S : Nat → Int32) (A : Nat → Nat → Int32) : Option (Int32 × (Nat → Int32) × (Nat → Nat → Int32)) := (if (S 9) = 0 then (f_X4_denial_j13_2 S A 1) else (f_X4_denial_j13_2 S A 0))
abbrev rm_X4_denial : Room := { frames := 1, cells := 0, slots := 0, locals := 21 }
set_option maxHeartbeats 4000000 in
theorem ct_X4_denial (Ev : rb_E) (h : AH) (n : Nat) (o : Nat) (a : Nat → Nat) (S : Nat → Int32) (A : Nat → Nat → Int32)  (rv : Int32) (rS : Nat → Int32) (rA : Nat → Nat → Int32) (hM : MD Ev h o a S A) (hf : f_X4_denial S A = some (rv, rS, rA)) : Ct Ev yX4_denial (ws_ yX4_denial cX4_denial 1 (some .int)) rm_X4_denial [.ref o] h n (pM Ev .int o a h n rv rS rA) := by
  refine Ct.of rfl (Nat.le_of_ble_eq_true rfl) fun X C hnm => ?_
  have C : Cx Ev X RX4 cX4_denial 1 (some .int) [] := C
  show Wa Ev X rm_X4_denial 1 h n 0 0 (rb_MQ Ev X rm_X4_denial (pM Ev .int o a h n rv rS rA)) 0 [(0, .ref o)] []
  have hF : mdFr h h o a := mdFr.rf
  rw [f_X4_denial] at hf
  refine rb_aload_n C dX4_denial_0 rfl 0 rfl ?_
  refine rb_aload_n C dX4_denial_1 rfl 0 rfl ?_
  refine rb_get (v := .int (S 9)) C fl_X4_80_X4 (Or.inl hM.1) rfl dX4_denial_2 ?_
  have J_j13_2 : ∀ (w0_j13_2 : Int32), f_X4_denial_j13_2 S A w0_j13_2 = some (rv, rS, rA) → Wa Ev X rm_X4_denial 1 h n 0 0 (rb_MQ Ev X rm_X4_denial (pM Ev .int o a h n rv rS rA)) 13 [(0, .ref o)] [.int w0_j13_2, .ref o] := by
    intro w0_j13_2 hf
    rw [f_X4_denial_j13_2] at hf
    obtain ⟨⟨v_8, S_5, A_6⟩, e_4, hf⟩ := rb_bd hf
    refine rb_zVM C mi_X4_fails sv_X4_123 (IsC.of (Or.inl hM.1) ck_X4) (ct_X4_fails Ev h n o a S A w0_j13_2 _ _ _ hM e_4) (rest := []) rfl rfl (Nat.le_of_ble_eq_true rfl) ⟨Nat.le_of_ble_eq_true rfl, Nat.le_of_ble_eq_true rfl⟩ ⟨Nat.zero_le _, Nat.zero_le _⟩ dX4_denial_13 (fun h_7 hM hF1 hn_9 => ?_)
    have hF := hF.tr hF1
    refine rb_if_eq (tgt := 23) C dX4_denial_16 (by decide) (fun c_10 => ?_) (fun c_10 => ?_)
    · have hf := (if_pos c_10).symm.trans hf
      refine rb_aload_n C dX4_denial_23 rfl 0 rfl ?_
      refine rb_get (v := .int (S_5 9)) C fl_X4_80_X4 (Or.inl hM.1) rfl dX4_denial_24 ?_
      cases hf
      exact rb_iret C rfl rfl (Nat.zero_le _) (Nat.zero_le _) dX4_denial_27 ⟨rfl, rfl, hM, hF, rfl⟩
    · have hf := (if_neg c_10).symm.trans hf
      refine rb_iconst (v := 0) C dX4_denial_19 rfl ?_
      refine rb_goto (tgt := 27) C dX4_denial_20 (by decide) ?_
      cases hf
      exact rb_iret C rfl rfl (Nat.zero_le _) (Nat.zero_le _) dX4_denial_27 ⟨rfl, rfl, hM, hF, rfl⟩
  refine rb_if_ne (tgt := 12) C dX4_denial_5 (by decide) (fun c_1 => ?_) (fun c_1 => ?_)
  · have hf := (if_neg c_1).symm.trans hf
    refine rb_iconst (v := 0) C dX4_denial_12 rfl ?_
    exact J_j13_2 0 hf
  · have hf := (if_pos c_1).symm.trans hf
    refine rb_iconst (v := 1) C dX4_denial_8 rfl ?_
    refine rb_goto (tgt := 13) C dX4_denial_9 (by decide) ?_
    exact J_j13_2 1 hf
def f_X4_denialDetail_j13_2 (S : Nat → Int32) (A : Nat → Nat → Int32) (w0_j13_2 : Int32) : Option (Int32 × (Nat → Int32) × (Nat → Nat → Int32)) := ((f_X4_fails S A w0_j13_2).bind fun (v_8, S_5, A_6) => (if v_8 = 0 then (some ((S_5 10), S_5, A_6)) else (some (0, S_5, A_6))))
def f_X4_denialDetail (S : Nat → Int32) (A : Nat → Nat → Int32) : Option (Int32 × (Nat → Int32) × (Nat → Nat → Int32)) := (if (S 9) = 0 then (f_X4_denialDetail_j13_2 S A 1) else (f_X4_denialDetail_j13_2 S A 0))
abbrev rm_X4_denialDetail : Room := { frames := 1, cells := 0, slots := 0, locals := 21 }
set_option maxHeartbeats 4000000 in
theorem ct_X4_denialDetail (Ev : rb_E) (h : AH) (n : Nat) (o : Nat) (a : Nat → Nat) (S : Nat → Int32) (A : Nat → Nat → Int32)  (rv : Int32) (rS : Nat → Int32) (rA : Nat → Nat → Int32) (hM : MD Ev h o a S A) (hf : f_X4_denialDetail S A = some (rv, rS, rA)) : Ct Ev yX4_denialDetail (ws_ yX4_denialDetail cX4_denialDetail 1 (some .int)) rm_X4_denialDetail [.ref o] h n (pM Ev .int o a h n rv rS rA) := by
  refine Ct.of rfl (Nat.le_of_ble_eq_true rfl) fun X C hnm => ?_
  have C : Cx Ev X RX4 cX4_denialDetail 1 (some .int) [] := C
  show Wa Ev X rm_X4_denialDetail 1 h n 0 0 (rb_MQ Ev X rm_X4_denialDetail (pM Ev .int o a h n rv rS rA)) 0 [(0, .ref o)] []
  have hF : mdFr h h o a := mdFr.rf
  rw [f_X4_denialDetail] at hf
  refine rb_aload_n C dX4_denialDetail_0 rfl 0 rfl ?_
  refine rb_aload_n C dX4_denialDetail_1 rfl 0 rfl ?_
  refine rb_get (v := .int (S 9)) C fl_X4_80_X4 (Or.inl hM.1) rfl dX4_denialDetail_2 ?_
  have J_j13_2 : ∀ (w0_j13_2 : Int32), f_X4_denialDetail_j13_2 S A w0_j13_2 = some (rv, rS, rA) → Wa Ev X rm_X4_denialDetail 1 h n 0 0 (rb_MQ Ev X rm_X4_denialDetail (pM Ev .int o a h n rv rS rA)) 13 [(0, .ref o)] [.int w0_j13_2, .ref o] := by
    intro w0_j13_2 hf
    rw [f_X4_denialDetail_j13_2] at hf
    obtain ⟨⟨v_8, S_5, A_6⟩, e_4, hf⟩ := rb_bd hf
    refine rb_zVM C mi_X4_fails sv_X4_123 (IsC.of (Or.inl hM.1) ck_X4) (ct_X4_fails Ev h n o a S A w0_j13_2 _ _ _ hM e_4) (rest := []) rfl rfl (Nat.le_of_ble_eq_true rfl) ⟨Nat.le_of_ble_eq_true rfl, Nat.le_of_ble_eq_true rfl⟩ ⟨Nat.zero_le _, Nat.zero_le _⟩ dX4_denialDetail_13 (fun h_7 hM hF1 hn_9 => ?_)
    have hF := hF.tr hF1
    refine rb_if_eq (tgt := 23) C dX4_denialDetail_16 (by decide) (fun c_10 => ?_) (fun c_10 => ?_)
    · have hf := (if_pos c_10).symm.trans hf
      refine rb_aload_n C dX4_denialDetail_23 rfl 0 rfl ?_
      refine rb_get (v := .int (S_5 10)) C fl_X4_83_X4 (Or.inl hM.1) rfl dX4_denialDetail_24 ?_
      cases hf
      exact rb_iret C rfl rfl (Nat.zero_le _) (Nat.zero_le _) dX4_denialDetail_27 ⟨rfl, rfl, hM, hF, rfl⟩
    · have hf := (if_neg c_10).symm.trans hf
      refine rb_iconst (v := 0) C dX4_denialDetail_19 rfl ?_
      refine rb_goto (tgt := 27) C dX4_denialDetail_20 (by decide) ?_
      cases hf
      exact rb_iret C rfl rfl (Nat.zero_le _) (Nat.zero_le _) dX4_denialDetail_27 ⟨rfl, rfl, hM, hF, rfl⟩
  refine rb_if_ne (tgt := 12) C dX4_denialDetail_5 (by decide) (fun c_1 => ?_) (fun c_1 => ?_)
  · have hf := (if_neg c_1).symm.trans hf
    refine rb_iconst (v := 0) C dX4_denialDetail_12 rfl ?_
    exact J_j13_2 0 hf
  · have hf := (if_pos c_1).symm.trans hf
    refine rb_iconst (v := 1) C dX4_denialDetail_8 rfl ?_
    refine rb_goto (tgt := 13) C dX4_denialDetail_9 (by decide) ?_
    exact J_j13_2 1 hf
def f_X4_denialCause_j13_2 (S : Nat → Int32) (A : Nat → Nat → Int32) (w0_j13_2 : Int32) : Option (Int32 × (Nat → Int32) × (Nat → Nat → Int32)) := ((f_X4_fails S A w0_j13_2).bind fun (v_8, S_5, A_6) => (if v_8 = 0 then (some ((S_5 11), S_5, A_6)) else (some (0, S_5, A_6))))
def f_X4_denialCause (S : Nat → Int32) (A : Nat → Nat → Int32) : Option (Int32 × (Nat → Int32) × (Nat → Nat → Int32)) := (if (S 11) = 0 then (f_X4_denialCause_j13_2 S A 1) else (f_X4_denialCause_j13_2 S A 0))
abbrev rm_X4_denialCause : Room := { frames := 1, cells := 0, slots := 0, locals := 21 }
set_option maxHeartbeats 4000000 in
theorem ct_X4_denialCause (Ev : rb_E) (h : AH) (n : Nat) (o : Nat) (a : Nat → Nat) (S : Nat → Int32) (A : Nat → Nat → Int32)  (rv : Int32) (rS : Nat → Int32) (rA : Nat → Nat → Int32) (hM : MD Ev h o a S A) (hf : f_X4_denialCause S A = some (rv, rS, rA)) : Ct Ev yX4_denialCause (ws_ yX4_denialCause cX4_denialCause 1 (some .int)) rm_X4_denialCause [.ref o] h n (pM Ev .int o a h n rv rS rA) := by
  refine Ct.of rfl (Nat.le_of_ble_eq_true rfl) fun X C hnm => ?_
  have C : Cx Ev X RX4 cX4_denialCause 1 (some .int) [] := C
  show Wa Ev X rm_X4_denialCause 1 h n 0 0 (rb_MQ Ev X rm_X4_denialCause (pM Ev .int o a h n rv rS rA)) 0 [(0, .ref o)] []
  have hF : mdFr h h o a := mdFr.rf
  rw [f_X4_denialCause] at hf
  refine rb_aload_n C dX4_denialCause_0 rfl 0 rfl ?_
  refine rb_aload_n C dX4_denialCause_1 rfl 0 rfl ?_
  refine rb_get (v := .int (S 11)) C fl_X4_86_X4 (Or.inl hM.1) rfl dX4_denialCause_2 ?_
  have J_j13_2 : ∀ (w0_j13_2 : Int32), f_X4_denialCause_j13_2 S A w0_j13_2 = some (rv, rS, rA) → Wa Ev X rm_X4_denialCause 1 h n 0 0 (rb_MQ Ev X rm_X4_denialCause (pM Ev .int o a h n rv rS rA)) 13 [(0, .ref o)] [.int w0_j13_2, .ref o] := by
    intro w0_j13_2 hf
    rw [f_X4_denialCause_j13_2] at hf
    obtain ⟨⟨v_8, S_5, A_6⟩, e_4, hf⟩ := rb_bd hf
    refine rb_zVM C mi_X4_fails sv_X4_123 (IsC.of (Or.inl hM.1) ck_X4) (ct_X4_fails Ev h n o a S A w0_j13_2 _ _ _ hM e_4) (rest := []) rfl rfl (Nat.le_of_ble_eq_true rfl) ⟨Nat.le_of_ble_eq_true rfl, Nat.le_of_ble_eq_true rfl⟩ ⟨Nat.zero_le _, Nat.zero_le _⟩ dX4_denialCause_13 (fun h_7 hM hF1 hn_9 => ?_)
    have hF := hF.tr hF1
    refine rb_if_eq (tgt := 23) C dX4_denialCause_16 (by decide) (fun c_10 => ?_) (fun c_10 => ?_)
    · have hf := (if_pos c_10).symm.trans hf
      refine rb_aload_n C dX4_denialCause_23 rfl 0 rfl ?_
      refine rb_get (v := .int (S_5 11)) C fl_X4_86_X4 (Or.inl hM.1) rfl dX4_denialCause_24 ?_
      cases hf
      exact rb_iret C rfl rfl (Nat.zero_le _) (Nat.zero_le _) dX4_denialCause_27 ⟨rfl, rfl, hM, hF, rfl⟩
    · have hf := (if_neg c_10).symm.trans hf
      refine rb_iconst (v := 0) C dX4_denialCause_19 rfl ?_
      refine rb_goto (tgt := 27) C dX4_denialCause_20 (by decide) ?_
      cases hf
      exact rb_iret C rfl rfl (Nat.zero_le _) (Nat.zero_le _) dX4_denialCause_27 ⟨rfl, rfl, hM, hF, rfl⟩
  refine rb_if_ne (tgt := 12) C dX4_denialCause_5 (by decide) (fun c_1 => ?_) (fun c_1 => ?_)
  · have hf := (if_neg c_1).symm.trans hf
    refine rb_iconst (v := 0) C dX4_denialCause_12 rfl ?_
    exact J_j13_2 0 hf
  · have hf := (if_pos c_1).symm.trans hf
    refine rb_iconst (v := 1) C dX4_denialCause_8 rfl ?_
    refine rb_goto (tgt := 13) C dX4_denialCause_9 (by decide) ?_
    exact J_j13_2 1 hf
def f_X4_copies_1_0_l3_1 (x1 : Int32) (x3 : Int32) : Nat → Int32 → (Nat → Int32) → (Nat → Nat → Int32) → Option ((Nat → Int32) × (Nat → Nat → Int32))
  | 0, _, _, _ => none
  | k_l3_1 + 1, y4_l3_1, S_l3_1, A_l3_1 => (if 44 ≤ y4_l3_1 then (some (S_l3_1, A_l3_1)) else if ((x1 + y4_l3_1) < 0 ∨ 352 ≤ (x1 + y4_l3_1).toNatClampNeg) then none else if ((x3 + y4_l3_1) < 0 ∨ 44 ≤ (x3 + y4_l3_1).toNatClampNeg) then none else ((f_X4_copies_1_0_l3_1 x1 x3 k_l3_1) (y4_l3_1 + 1) S_l3_1 (va_up A_l3_1 0 (upd (A_l3_1 0) (x3 + y4_l3_1).toNatClampNeg ((A_l3_1 1) (x1 + y4_l3_1).toNatClampNeg)))))
def f_X4_copies_1_0 (S : Nat → Int32) (A : Nat → Nat → Int32) (x1 : Int32) (x3 : Int32) : Option ((Nat → Int32) × (Nat → Nat → Int32)) := (f_X4_copies_1_0_l3_1 x1 x3 4096 0 S A)
abbrev rm_X4_copies_1_0 : Room := { frames := 0, cells := 0, slots := 0, locals := 0 }
set_option maxHeartbeats 4000000 in
theorem ct_X4_copies_1_0 (Ev : rb_E) (h : AH) (n : Nat) (o : Nat) (a : Nat → Nat) (S : Nat → Int32) (A : Nat → Nat → Int32) (x1 : Int32) (x3 : Int32) (rS : Nat → Int32) (rA : Nat → Nat → Int32) (hM : MD Ev h o a S A) (hf : f_X4_copies_1_0 S A x1 x3 = some (rS, rA)) : Ct Ev yX4_copies (ws_ yX4_copies cX4_copies 5 none) rm_X4_copies_1_0 [.ref (a 1), .int x1, .ref (a 0), .int x3] h n (pMv Ev o a h n none rS rA) := by
  refine Ct.of rfl (Nat.le_of_ble_eq_true rfl) fun X C hnm => ?_
  have C : Cx Ev X RX4 cX4_copies 5 none [] := C
  show Wa Ev X rm_X4_copies_1_0 5 h n 0 0 (rb_MQ Ev X rm_X4_copies_1_0 (pMv Ev o a h n none rS rA)) 0 [(0, .ref (a 1)), (1, .int x1), (2, .ref (a 0)), (3, .int x3)] []
  have hF : mdFr h h o a := mdFr.rf
  rw [f_X4_copies_1_0] at hf
  refine rb_iconst (v := 0) C dX4_copies_0 rfl ?_
  refine rb_istore (lv' := [(4, .int 0), (0, .ref (a 1)), (1, .int x1), (2, .ref (a 0)), (3, .int x3)]) C dX4_copies_1 (by decide) rfl ?_
  have L_l3_1 : ∀ (k_l3_1 : Nat) (y4_l3_1 : Int32) (S_l3_1 : Nat → Int32) (A_l3_1 : Nat → Nat → Int32) (h_l3_1 : AH), MD Ev h_l3_1 o a S_l3_1 A_l3_1 → mdFr h h_l3_1 o a → f_X4_copies_1_0_l3_1 x1 x3 k_l3_1 y4_l3_1 S_l3_1 A_l3_1 = some (rS, rA) → Wa Ev X rm_X4_copies_1_0 5 h_l3_1 n 0 0 (rb_MQ Ev X rm_X4_copies_1_0 (pMv Ev o a h n none rS rA)) 3 [(0, .ref (a 1)), (1, .int x1), (2, .ref (a 0)), (3, .int x3), (4, .int y4_l3_1)] [] := by
    intro k_l3_1
    induction k_l3_1 with
    | zero => intro y4_l3_1 S_l3_1 A_l3_1 h_l3_1 hM hF hf; cases hf
    | succ k_l3_1 ih_l3_1 =>
      intro y4_l3_1 S_l3_1 A_l3_1 h_l3_1 hM hF hf
      rw [f_X4_copies_1_0_l3_1] at hf
      refine rb_iload C dX4_copies_3 4 rfl ?_
      refine rb_bipush (v := 44) C dX4_copies_5 rfl ?_
      refine rb_icmp_ge (tgt := 28) C dX4_copies_7 (by decide) (fun c_2 => ?_) (fun c_2 => ?_)
      · have hf := (if_pos c_2).symm.trans hf
        cases hf
        exact rb_vret C rfl (Nat.zero_le _) (Nat.zero_le _) dX4_copies_28 ⟨rfl, rfl, hM, hF⟩
      · have hf := (if_neg c_2).symm.trans hf
        refine rb_aload_n C dX4_copies_10 rfl 2 rfl ?_
        refine rb_iload_n C dX4_copies_11 rfl 3 rfl ?_
        refine rb_iload C dX4_copies_12 4 rfl ?_
        refine rb_iadd C dX4_copies_14 ?_
        refine rb_aload_n C dX4_copies_15 rfl 0 rfl ?_
        refine rb_iload_n C dX4_copies_16 rfl 1 rfl ?_
        refine rb_iload C dX4_copies_17 4 rfl ?_
        refine rb_iadd C dX4_copies_19 ?_
        by_cases c_g : ((x1 + y4_l3_1) < 0 ∨ 352 ≤ (x1 + y4_l3_1).toNatClampNeg)
        · exact absurd ((if_pos c_g).symm.trans hf) (fun z => by cases z)
        have hf := (if_neg c_g).symm.trans hf
        refine rb_iald (f := (A_l3_1 1)) C (Or.inl (hM.2.1 1 rfl)) (rb_nN c_g) dX4_copies_20 ?_
        by_cases c_g : ((x3 + y4_l3_1) < 0 ∨ 44 ≤ (x3 + y4_l3_1).toNatClampNeg)
        · exact absurd ((if_pos c_g).symm.trans hf) (fun z => by cases z)
        have hf := (if_neg c_g).symm.trans hf
        refine rb_iast (f := (A_l3_1 0)) C (hM.2.1 0 rfl) (rb_nN c_g) dX4_copies_21 (fun h_3 e1 e2 => ?_)
        have hM : MD Ev h_3 o a S_l3_1 (va_up A_l3_1 0 (upd (A_l3_1 0) (x3 + y4_l3_1).toNatClampNeg ((A_l3_1 1) (x1 + y4_l3_1).toNatClampNeg))) := hM.ast 0 rfl e1 e2
        have hF := hF.ast 0 rfl e2
        refine rb_iinc (v := (y4_l3_1 + 1)) (lv' := [(4, .int (y4_l3_1 + 1)), (0, .ref (a 1)), (1, .int x1), (2, .ref (a 0)), (3, .int x3)]) C dX4_copies_22 (k := 4) rfl rfl (by decide) rfl ?_
        refine rb_goto (tgt := 3) C dX4_copies_25 (by decide) ?_
        refine rb_sub [1, 2, 3, 4, 0] rfl ?_
        exact ih_l3_1 (y4_l3_1 + 1) S_l3_1 (va_up A_l3_1 0 (upd (A_l3_1 0) (x3 + y4_l3_1).toNatClampNeg ((A_l3_1 1) (x1 + y4_l3_1).toNatClampNeg))) h_3 hM hF hf
  refine rb_sub [1, 2, 3, 4, 0] rfl ?_
  exact L_l3_1 4096 0 S A h hM hF hf
def f_X4_undo_j13_2 (S : Nat → Int32) (A : Nat → Nat → Int32) (w0_j13_2 : Int32) : Option (Int32 × (Nat → Int32) × (Nat → Nat → Int32)) := ((f_X4_fails S A w0_j13_2).bind fun (v_8, S_5, A_6) => (if v_8 = 0 then ((f_X4_copies_1_0 (upd S_5 5 ((S_5 5) - 1)) A_6 (44 * ((S_5 5) - 1)) 0).bind fun (S_14, A_15) => (some ((S_14 5), S_14, A_15))) else (some (0, S_5, A_6))))
def f_X4_undo (S : Nat → Int32) (A : Nat → Nat → Int32) : Option (Int32 × (Nat → Int32) × (Nat → Nat → Int32)) := (if (S 5) = 0 then (f_X4_undo_j13_2 S A 1) else (f_X4_undo_j13_2 S A 0))
abbrev rm_X4_undo : Room := { frames := 1, cells := 0, slots := 0, locals := 24 }
set_option maxHeartbeats 4000000 in
theorem ct_X4_undo (Ev : rb_E) (h : AH) (n : Nat) (o : Nat) (a : Nat → Nat) (S : Nat → Int32) (A : Nat → Nat → Int32)  (rv : Int32) (rS : Nat → Int32) (rA : Nat → Nat → Int32) (hM : MD Ev h o a S A) (hf : f_X4_undo S A = some (rv, rS, rA)) : Ct Ev yX4_undo (ws_ yX4_undo cX4_undo 1 (some .int)) rm_X4_undo [.ref o] h n (pM Ev .int o a h n rv rS rA) := by
  refine Ct.of rfl (Nat.le_of_ble_eq_true rfl) fun X C hnm => ?_
  have C : Cx Ev X RX4 cX4_undo 1 (some .int) [] := C
  show Wa Ev X rm_X4_undo 1 h n 0 0 (rb_MQ Ev X rm_X4_undo (pM Ev .int o a h n rv rS rA)) 0 [(0, .ref o)] []
  have hF : mdFr h h o a := mdFr.rf
  rw [f_X4_undo] at hf
  refine rb_aload_n C dX4_undo_0 rfl 0 rfl ?_
  refine rb_aload_n C dX4_undo_1 rfl 0 rfl ?_
  refine rb_get (v := .int (S 5)) C fl_X4_92_X4 (Or.inl hM.1) rfl dX4_undo_2 ?_
  have J_j13_2 : ∀ (w0_j13_2 : Int32), f_X4_undo_j13_2 S A w0_j13_2 = some (rv, rS, rA) → Wa Ev X rm_X4_undo 1 h n 0 0 (rb_MQ Ev X rm_X4_undo (pM Ev .int o a h n rv rS rA)) 13 [(0, .ref o)] [.int w0_j13_2, .ref o] := by
    intro w0_j13_2 hf
    rw [f_X4_undo_j13_2] at hf
    obtain ⟨⟨v_8, S_5, A_6⟩, e_4, hf⟩ := rb_bd hf
    refine rb_zVM C mi_X4_fails sv_X4_123 (IsC.of (Or.inl hM.1) ck_X4) (ct_X4_fails Ev h n o a S A w0_j13_2 _ _ _ hM e_4) (rest := []) rfl rfl (Nat.le_of_ble_eq_true rfl) ⟨Nat.le_of_ble_eq_true rfl, Nat.le_of_ble_eq_true rfl⟩ ⟨Nat.zero_le _, Nat.zero_le _⟩ dX4_undo_13 (fun h_7 hM hF1 hn_9 => ?_)
    have hF := hF.tr hF1
    refine rb_if_eq (tgt := 21) C dX4_undo_16 (by decide) (fun c_10 => ?_) (fun c_10 => ?_)
    · have hf := (if_pos c_10).symm.trans hf
      refine rb_aload_n C dX4_undo_21 rfl 0 rfl ?_
      refine rb_dup C dX4_undo_22 rfl ?_
      refine rb_get (v := .int (S_5 5)) C fl_X4_92_X4 (Or.inl hM.1) rfl dX4_undo_23 ?_
      refine rb_iconst (v := 1) C dX4_undo_26 rfl ?_
      refine rb_isub C dX4_undo_27 ?_
      refine rb_put (v := .int ((S_5 5) - 1)) C fw_X4_92_X4 hM.1 rfl rfl (Nat.le_of_ble_eq_true rfl) dX4_undo_28 (fun h_11 e1 e2 => ?_)
      have hM : MD Ev h_11 o a (upd S_5 5 ((S_5 5) - 1)) A_6 := hM.put e1 e2 rfl
      have hF := hF.put e2
      refine rb_aload_n C dX4_undo_31 rfl 0 rfl ?_
      refine rb_get (v := .ref (a 1)) C fl_X4_13_X4 (Or.inl hM.1) rfl dX4_undo_32 ?_
      refine rb_bipush (v := 44) C dX4_undo_35 rfl ?_
      refine rb_aload_n C dX4_undo_37 rfl 0 rfl ?_
      refine rb_get (v := .int ((S_5 5) - 1)) C fl_X4_92_X4 (Or.inl hM.1) rfl dX4_undo_38 ?_
      refine rb_imul C dX4_undo_41 ?_
      refine rb_aload_n C dX4_undo_42 rfl 0 rfl ?_
      refine rb_get (v := .ref (a 0)) C fl_X4_7_X4 (Or.inl hM.1) rfl dX4_undo_43 ?_
      refine rb_iconst (v := 0) C dX4_undo_46 rfl ?_
      obtain ⟨⟨S_14, A_15⟩, e_13, hf⟩ := rb_bd hf
      refine rb_zSMv C mi_X4_copies ss_X4_95 (ct_X4_copies_1_0 Ev h_11 n o a (upd S_5 5 ((S_5 5) - 1)) A_6 (44 * ((S_5 5) - 1)) 0 _ _ hM e_13) (rest := []) rfl rfl (Nat.le_of_ble_eq_true rfl) ⟨Nat.le_of_ble_eq_true rfl, Nat.le_of_ble_eq_true rfl⟩ ⟨Nat.zero_le _, Nat.zero_le _⟩ dX4_undo_47 (fun h_16 hM hF1 => ?_)
      have hF := hF.tr hF1
      refine rb_aload_n C dX4_undo_50 rfl 0 rfl ?_
      refine rb_get (v := .int (S_14 5)) C fl_X4_92_X4 (Or.inl hM.1) rfl dX4_undo_51 ?_
      cases hf
      exact rb_iret C rfl rfl (Nat.zero_le _) (Nat.zero_le _) dX4_undo_54 ⟨rfl, rfl, hM, hF, rfl⟩
    · have hf := (if_neg c_10).symm.trans hf
      refine rb_iconst (v := 0) C dX4_undo_19 rfl ?_
      cases hf
      exact rb_iret C rfl rfl (Nat.zero_le _) (Nat.zero_le _) dX4_undo_20 ⟨rfl, rfl, hM, hF, rfl⟩
  refine rb_if_ne (tgt := 12) C dX4_undo_5 (by decide) (fun c_1 => ?_) (fun c_1 => ?_)
  · have hf := (if_neg c_1).symm.trans hf
    refine rb_iconst (v := 0) C dX4_undo_12 rfl ?_
    exact J_j13_2 0 hf
  · have hf := (if_pos c_1).symm.trans hf
    refine rb_iconst (v := 1) C dX4_undo_8 rfl ?_
    refine rb_goto (tgt := 13) C dX4_undo_9 (by decide) ?_
    exact J_j13_2 1 hf
def f_X4_undoCount (S : Nat → Int32) (A : Nat → Nat → Int32) : Option (Int32 × (Nat → Int32) × (Nat → Nat → Int32)) := (some ((S 5), (upd S 8 0), A))
abbrev rm_X4_undoCount : Room := { frames := 0, cells := 0, slots := 0, locals := 0 }
set_option maxHeartbeats 4000000 in
theorem ct_X4_undoCount (Ev : rb_E) (h : AH) (n : Nat) (o : Nat) (a : Nat → Nat) (S : Nat → Int32) (A : Nat → Nat → Int32)  (rv : Int32) (rS : Nat → Int32) (rA : Nat → Nat → Int32) (hM : MD Ev h o a S A) (hf : f_X4_undoCount S A = some (rv, rS, rA)) : Ct Ev yX4_undoCount (ws_ yX4_undoCount cX4_undoCount 1 (some .int)) rm_X4_undoCount [.ref o] h n (pM Ev .int o a h n rv rS rA) := by
  refine Ct.of rfl (Nat.le_of_ble_eq_true rfl) fun X C hnm => ?_
  have C : Cx Ev X RX4 cX4_undoCount 1 (some .int) [] := C
  show Wa Ev X rm_X4_undoCount 1 h n 0 0 (rb_MQ Ev X rm_X4_undoCount (pM Ev .int o a h n rv rS rA)) 0 [(0, .ref o)] []
  have hF : mdFr h h o a := mdFr.rf
  rw [f_X4_undoCount] at hf
  refine rb_aload_n C dX4_undoCount_0 rfl 0 rfl ?_
  refine rb_iconst (v := 0) C dX4_undoCount_1 rfl ?_
  refine rb_put (v := .int 0) C fw_X4_73_X4 hM.1 rfl rfl (Nat.le_of_ble_eq_true rfl) dX4_undoCount_2 (fun h_1 e1 e2 => ?_)
  have hM : MD Ev h_1 o a (upd S 8 0) A := hM.put e1 e2 rfl
  have hF := hF.put e2
  refine rb_aload_n C dX4_undoCount_5 rfl 0 rfl ?_
  refine rb_get (v := .int (S 5)) C fl_X4_92_X4 (Or.inl hM.1) rfl dX4_undoCount_6 ?_
  cases hf
  exact rb_iret C rfl rfl (Nat.zero_le _) (Nat.zero_le _) dX4_undoCount_9 ⟨rfl, rfl, hM, hF, rfl⟩
def f_X4_copies_0_2_l3_1 (x1 : Int32) (x3 : Int32) : Nat → Int32 → (Nat → Int32) → (Nat → Nat → Int32) → Option ((Nat → Int32) × (Nat → Nat → Int32))
  | 0, _, _, _ => none
  | k_l3_1 + 1, y4_l3_1, S_l3_1, A_l3_1 => (if 44 ≤ y4_l3_1 then (some (S_l3_1, A_l3_1)) else if ((x1 + y4_l3_1) < 0 ∨ 44 ≤ (x1 + y4_l3_1).toNatClampNeg) then none else if ((x3 + y4_l3_1) < 0 ∨ 44 ≤ (x3 + y4_l3_1).toNatClampNeg) then none else ((f_X4_copies_0_2_l3_1 x1 x3 k_l3_1) (y4_l3_1 + 1) S_l3_1 (va_up A_l3_1 2 (upd (A_l3_1 2) (x3 + y4_l3_1).toNatClampNeg ((A_l3_1 0) (x1 + y4_l3_1).toNatClampNeg)))))
def f_X4_copies_0_2 (S : Nat → Int32) (A : Nat → Nat → Int32) (x1 : Int32) (x3 : Int32) : Option ((Nat → Int32) × (Nat → Nat → Int32)) := (f_X4_copies_0_2_l3_1 x1 x3 4096 0 S A)
abbrev rm_X4_copies_0_2 : Room := { frames := 0, cells := 0, slots := 0, locals := 0 }
set_option maxHeartbeats 4000000 in
theorem ct_X4_copies_0_2 (Ev : rb_E) (h : AH) (n : Nat) (o : Nat) (a : Nat → Nat) (S : Nat → Int32) (A : Nat → Nat → Int32) (x1 : Int32) (x3 : Int32) (rS : Nat → Int32) (rA : Nat → Nat → Int32) (hM : MD Ev h o a S A) (hf : f_X4_copies_0_2 S A x1 x3 = some (rS, rA)) : Ct Ev yX4_copies (ws_ yX4_copies cX4_copies 5 none) rm_X4_copies_0_2 [.ref (a 0), .int x1, .ref (a 2), .int x3] h n (pMv Ev o a h n none rS rA) := by
  refine Ct.of rfl (Nat.le_of_ble_eq_true rfl) fun X C hnm => ?_
  have C : Cx Ev X RX4 cX4_copies 5 none [] := C
  show Wa Ev X rm_X4_copies_0_2 5 h n 0 0 (rb_MQ Ev X rm_X4_copies_0_2 (pMv Ev o a h n none rS rA)) 0 [(0, .ref (a 0)), (1, .int x1), (2, .ref (a 2)), (3, .int x3)] []
  have hF : mdFr h h o a := mdFr.rf
  rw [f_X4_copies_0_2] at hf
  refine rb_iconst (v := 0) C dX4_copies_0 rfl ?_
  refine rb_istore (lv' := [(4, .int 0), (0, .ref (a 0)), (1, .int x1), (2, .ref (a 2)), (3, .int x3)]) C dX4_copies_1 (by decide) rfl ?_
  have L_l3_1 : ∀ (k_l3_1 : Nat) (y4_l3_1 : Int32) (S_l3_1 : Nat → Int32) (A_l3_1 : Nat → Nat → Int32) (h_l3_1 : AH), MD Ev h_l3_1 o a S_l3_1 A_l3_1 → mdFr h h_l3_1 o a → f_X4_copies_0_2_l3_1 x1 x3 k_l3_1 y4_l3_1 S_l3_1 A_l3_1 = some (rS, rA) → Wa Ev X rm_X4_copies_0_2 5 h_l3_1 n 0 0 (rb_MQ Ev X rm_X4_copies_0_2 (pMv Ev o a h n none rS rA)) 3 [(0, .ref (a 0)), (1, .int x1), (2, .ref (a 2)), (3, .int x3), (4, .int y4_l3_1)] [] := by
    intro k_l3_1
    induction k_l3_1 with
    | zero => intro y4_l3_1 S_l3_1 A_l3_1 h_l3_1 hM hF hf; cases hf
    | succ k_l3_1 ih_l3_1 =>
      intro y4_l3_1 S_l3_1 A_l3_1 h_l3_1 hM hF hf
      rw [f_X4_copies_0_2_l3_1] at hf
      refine rb_iload C dX4_copies_3 4 rfl ?_
      refine rb_bipush (v := 44) C dX4_copies_5 rfl ?_
      refine rb_icmp_ge (tgt := 28) C dX4_copies_7 (by decide) (fun c_2 => ?_) (fun c_2 => ?_)
      · have hf := (if_pos c_2).symm.trans hf
        cases hf
        exact rb_vret C rfl (Nat.zero_le _) (Nat.zero_le _) dX4_copies_28 ⟨rfl, rfl, hM, hF⟩
      · have hf := (if_neg c_2).symm.trans hf
        refine rb_aload_n C dX4_copies_10 rfl 2 rfl ?_
        refine rb_iload_n C dX4_copies_11 rfl 3 rfl ?_
        refine rb_iload C dX4_copies_12 4 rfl ?_
        refine rb_iadd C dX4_copies_14 ?_
        refine rb_aload_n C dX4_copies_15 rfl 0 rfl ?_
        refine rb_iload_n C dX4_copies_16 rfl 1 rfl ?_
        refine rb_iload C dX4_copies_17 4 rfl ?_
        refine rb_iadd C dX4_copies_19 ?_
        by_cases c_g : ((x1 + y4_l3_1) < 0 ∨ 44 ≤ (x1 + y4_l3_1).toNatClampNeg)
        · exact absurd ((if_pos c_g).symm.trans hf) (fun z => by cases z)
        have hf := (if_neg c_g).symm.trans hf
        refine rb_iald (f := (A_l3_1 0)) C (Or.inl (hM.2.1 0 rfl)) (rb_nN c_g) dX4_copies_20 ?_
        by_cases c_g : ((x3 + y4_l3_1) < 0 ∨ 44 ≤ (x3 + y4_l3_1).toNatClampNeg)
        · exact absurd ((if_pos c_g).symm.trans hf) (fun z => by cases z)
        have hf := (if_neg c_g).symm.trans hf
        refine rb_iast (f := (A_l3_1 2)) C (hM.2.1 2 rfl) (rb_nN c_g) dX4_copies_21 (fun h_3 e1 e2 => ?_)
        have hM : MD Ev h_3 o a S_l3_1 (va_up A_l3_1 2 (upd (A_l3_1 2) (x3 + y4_l3_1).toNatClampNeg ((A_l3_1 0) (x1 + y4_l3_1).toNatClampNeg))) := hM.ast 2 rfl e1 e2
        have hF := hF.ast 2 rfl e2
        refine rb_iinc (v := (y4_l3_1 + 1)) (lv' := [(4, .int (y4_l3_1 + 1)), (0, .ref (a 0)), (1, .int x1), (2, .ref (a 2)), (3, .int x3)]) C dX4_copies_22 (k := 4) rfl rfl (by decide) rfl ?_
        refine rb_goto (tgt := 3) C dX4_copies_25 (by decide) ?_
        refine rb_sub [1, 2, 3, 4, 0] rfl ?_
        exact ih_l3_1 (y4_l3_1 + 1) S_l3_1 (va_up A_l3_1 2 (upd (A_l3_1 2) (x3 + y4_l3_1).toNatClampNeg ((A_l3_1 0) (x1 + y4_l3_1).toNatClampNeg))) h_3 hM hF hf
  refine rb_sub [1, 2, 3, 4, 0] rfl ?_
  exact L_l3_1 4096 0 S A h hM hF hf
def f_X4_saveSnapshot (S : Nat → Int32) (A : Nat → Nat → Int32) : Option (Int32 × (Nat → Int32) × (Nat → Nat → Int32)) := ((f_X4_copies_0_2 (upd (upd S 8 0) 4 1) A 0 0).bind fun (S_5, A_6) => (some (((A_6 0) 0), S_5, A_6)))
abbrev rm_X4_saveSnapshot : Room := { frames := 1, cells := 0, slots := 0, locals := 24 }
set_option maxHeartbeats 4000000 in
theorem ct_X4_saveSnapshot (Ev : rb_E) (h : AH) (n : Nat) (o : Nat) (a : Nat → Nat) (S : Nat → Int32) (A : Nat → Nat → Int32)  (rv : Int32) (rS : Nat → Int32) (rA : Nat → Nat → Int32) (hM : MD Ev h o a S A) (hf : f_X4_saveSnapshot S A = some (rv, rS, rA)) : Ct Ev yX4_saveSnapshot (ws_ yX4_saveSnapshot cX4_saveSnapshot 1 (some .int)) rm_X4_saveSnapshot [.ref o] h n (pM Ev .int o a h n rv rS rA) := by
  refine Ct.of rfl (Nat.le_of_ble_eq_true rfl) fun X C hnm => ?_
  have C : Cx Ev X RX4 cX4_saveSnapshot 1 (some .int) [] := C
  show Wa Ev X rm_X4_saveSnapshot 1 h n 0 0 (rb_MQ Ev X rm_X4_saveSnapshot (pM Ev .int o a h n rv rS rA)) 0 [(0, .ref o)] []
  have hF : mdFr h h o a := mdFr.rf
  rw [f_X4_saveSnapshot] at hf
  refine rb_aload_n C dX4_saveSnapshot_0 rfl 0 rfl ?_
  refine rb_iconst (v := 0) C dX4_saveSnapshot_1 rfl ?_
  refine rb_put (v := .int 0) C fw_X4_73_X4 hM.1 rfl rfl (Nat.le_of_ble_eq_true rfl) dX4_saveSnapshot_2 (fun h_1 e1 e2 => ?_)
  have hM : MD Ev h_1 o a (upd S 8 0) A := hM.put e1 e2 rfl
  have hF := hF.put e2
  refine rb_aload_n C dX4_saveSnapshot_5 rfl 0 rfl ?_
  refine rb_iconst (v := 1) C dX4_saveSnapshot_6 rfl ?_
  refine rb_put (v := .int 1) C fw_X4_338_X4 hM.1 rfl rfl (Nat.le_of_ble_eq_true rfl) dX4_saveSnapshot_7 (fun h_2 e1 e2 => ?_)
  have hM : MD Ev h_2 o a (upd (upd S 8 0) 4 1) A := hM.put e1 e2 rfl
  have hF := hF.put e2
  refine rb_aload_n C dX4_saveSnapshot_10 rfl 0 rfl ?_
  refine rb_get (v := .ref (a 0)) C fl_X4_7_X4 (Or.inl hM.1) rfl dX4_saveSnapshot_11 ?_
  refine rb_iconst (v := 0) C dX4_saveSnapshot_14 rfl ?_
  refine rb_aload_n C dX4_saveSnapshot_15 rfl 0 rfl ?_
  refine rb_get (v := .ref (a 2)) C fl_X4_16_X4 (Or.inl hM.1) rfl dX4_saveSnapshot_16 ?_
  refine rb_iconst (v := 0) C dX4_saveSnapshot_19 rfl ?_
  obtain ⟨⟨S_5, A_6⟩, e_4, hf⟩ := rb_bd hf
  refine rb_zSMv C mi_X4_copies ss_X4_95 (ct_X4_copies_0_2 Ev h_2 n o a (upd (upd S 8 0) 4 1) A 0 0 _ _ hM e_4) (rest := []) rfl rfl (Nat.le_of_ble_eq_true rfl) ⟨Nat.le_of_ble_eq_true rfl, Nat.le_of_ble_eq_true rfl⟩ ⟨Nat.zero_le _, Nat.zero_le _⟩ dX4_saveSnapshot_20 (fun h_7 hM hF1 => ?_)
  have hF := hF.tr hF1
  refine rb_aload_n C dX4_saveSnapshot_23 rfl 0 rfl ?_
  refine rb_get (v := .ref (a 0)) C fl_X4_7_X4 (Or.inl hM.1) rfl dX4_saveSnapshot_24 ?_
  refine rb_iconst (v := 0) C dX4_saveSnapshot_27 rfl ?_
  refine rb_iald (f := (A_6 0)) C (Or.inl (hM.2.1 0 rfl)) (rb_nN (by decide)) dX4_saveSnapshot_28 ?_
  refine rb_top (.int ((A_6 0) 0)) rfl ?_
  cases hf
  exact rb_iret C rfl rfl (Nat.zero_le _) (Nat.zero_le _) dX4_saveSnapshot_29 ⟨rfl, rfl, hM, hF, rfl⟩
def f_X4_copies_2_0_l3_1 (x1 : Int32) (x3 : Int32) : Nat → Int32 → (Nat → Int32) → (Nat → Nat → Int32) → Option ((Nat → Int32) × (Nat → Nat → Int32))
  | 0, _, _, _ => none
  | k_l3_1 + 1, y4_l3_1, S_l3_1, A_l3_1 => (if 44 ≤ y4_l3_1 then (some (S_l3_1, A_l3_1)) else if ((x1 + y4_l3_1) < 0 ∨ 44 ≤ (x1 + y4_l3_1).toNatClampNeg) then none else if ((x3 + y4_l3_1) < 0 ∨ 44 ≤ (x3 + y4_l3_1).toNatClampNeg) then none else ((f_X4_copies_2_0_l3_1 x1 x3 k_l3_1) (y4_l3_1 + 1) S_l3_1 (va_up A_l3_1 0 (upd (A_l3_1 0) (x3 + y4_l3_1).toNatClampNeg ((A_l3_1 2) (x1 + y4_l3_1).toNatClampNeg)))))
def f_X4_copies_2_0 (S : Nat → Int32) (A : Nat → Nat → Int32) (x1 : Int32) (x3 : Int32) : Option ((Nat → Int32) × (Nat → Nat → Int32)) := (f_X4_copies_2_0_l3_1 x1 x3 4096 0 S A)
abbrev rm_X4_copies_2_0 : Room := { frames := 0, cells := 0, slots := 0, locals := 0 }
set_option maxHeartbeats 4000000 in
theorem ct_X4_copies_2_0 (Ev : rb_E) (h : AH) (n : Nat) (o : Nat) (a : Nat → Nat) (S : Nat → Int32) (A : Nat → Nat → Int32) (x1 : Int32) (x3 : Int32) (rS : Nat → Int32) (rA : Nat → Nat → Int32) (hM : MD Ev h o a S A) (hf : f_X4_copies_2_0 S A x1 x3 = some (rS, rA)) : Ct Ev yX4_copies (ws_ yX4_copies cX4_copies 5 none) rm_X4_copies_2_0 [.ref (a 2), .int x1, .ref (a 0), .int x3] h n (pMv Ev o a h n none rS rA) := by
  refine Ct.of rfl (Nat.le_of_ble_eq_true rfl) fun X C hnm => ?_
  have C : Cx Ev X RX4 cX4_copies 5 none [] := C
  show Wa Ev X rm_X4_copies_2_0 5 h n 0 0 (rb_MQ Ev X rm_X4_copies_2_0 (pMv Ev o a h n none rS rA)) 0 [(0, .ref (a 2)), (1, .int x1), (2, .ref (a 0)), (3, .int x3)] []
  have hF : mdFr h h o a := mdFr.rf
  rw [f_X4_copies_2_0] at hf
  refine rb_iconst (v := 0) C dX4_copies_0 rfl ?_
  refine rb_istore (lv' := [(4, .int 0), (0, .ref (a 2)), (1, .int x1), (2, .ref (a 0)), (3, .int x3)]) C dX4_copies_1 (by decide) rfl ?_
  have L_l3_1 : ∀ (k_l3_1 : Nat) (y4_l3_1 : Int32) (S_l3_1 : Nat → Int32) (A_l3_1 : Nat → Nat → Int32) (h_l3_1 : AH), MD Ev h_l3_1 o a S_l3_1 A_l3_1 → mdFr h h_l3_1 o a → f_X4_copies_2_0_l3_1 x1 x3 k_l3_1 y4_l3_1 S_l3_1 A_l3_1 = some (rS, rA) → Wa Ev X rm_X4_copies_2_0 5 h_l3_1 n 0 0 (rb_MQ Ev X rm_X4_copies_2_0 (pMv Ev o a h n none rS rA)) 3 [(0, .ref (a 2)), (1, .int x1), (2, .ref (a 0)), (3, .int x3), (4, .int y4_l3_1)] [] := by
    intro k_l3_1
    induction k_l3_1 with
    | zero => intro y4_l3_1 S_l3_1 A_l3_1 h_l3_1 hM hF hf; cases hf
    | succ k_l3_1 ih_l3_1 =>
      intro y4_l3_1 S_l3_1 A_l3_1 h_l3_1 hM hF hf
      rw [f_X4_copies_2_0_l3_1] at hf
      refine rb_iload C dX4_copies_3 4 rfl ?_
      refine rb_bipush (v := 44) C dX4_copies_5 rfl ?_
      refine rb_icmp_ge (tgt := 28) C dX4_copies_7 (by decide) (fun c_2 => ?_) (fun c_2 => ?_)
      · have hf := (if_pos c_2).symm.trans hf
        cases hf
        exact rb_vret C rfl (Nat.zero_le _) (Nat.zero_le _) dX4_copies_28 ⟨rfl, rfl, hM, hF⟩
      · have hf := (if_neg c_2).symm.trans hf
        refine rb_aload_n C dX4_copies_10 rfl 2 rfl ?_
        refine rb_iload_n C dX4_copies_11 rfl 3 rfl ?_
        refine rb_iload C dX4_copies_12 4 rfl ?_
        refine rb_iadd C dX4_copies_14 ?_
        refine rb_aload_n C dX4_copies_15 rfl 0 rfl ?_
        refine rb_iload_n C dX4_copies_16 rfl 1 rfl ?_
        refine rb_iload C dX4_copies_17 4 rfl ?_
        refine rb_iadd C dX4_copies_19 ?_
        by_cases c_g : ((x1 + y4_l3_1) < 0 ∨ 44 ≤ (x1 + y4_l3_1).toNatClampNeg)
        · exact absurd ((if_pos c_g).symm.trans hf) (fun z => by cases z)
        have hf := (if_neg c_g).symm.trans hf
        refine rb_iald (f := (A_l3_1 2)) C (Or.inl (hM.2.1 2 rfl)) (rb_nN c_g) dX4_copies_20 ?_
        by_cases c_g : ((x3 + y4_l3_1) < 0 ∨ 44 ≤ (x3 + y4_l3_1).toNatClampNeg)
        · exact absurd ((if_pos c_g).symm.trans hf) (fun z => by cases z)
        have hf := (if_neg c_g).symm.trans hf
        refine rb_iast (f := (A_l3_1 0)) C (hM.2.1 0 rfl) (rb_nN c_g) dX4_copies_21 (fun h_3 e1 e2 => ?_)
        have hM : MD Ev h_3 o a S_l3_1 (va_up A_l3_1 0 (upd (A_l3_1 0) (x3 + y4_l3_1).toNatClampNeg ((A_l3_1 2) (x1 + y4_l3_1).toNatClampNeg))) := hM.ast 0 rfl e1 e2
        have hF := hF.ast 0 rfl e2
        refine rb_iinc (v := (y4_l3_1 + 1)) (lv' := [(4, .int (y4_l3_1 + 1)), (0, .ref (a 2)), (1, .int x1), (2, .ref (a 0)), (3, .int x3)]) C dX4_copies_22 (k := 4) rfl rfl (by decide) rfl ?_
        refine rb_goto (tgt := 3) C dX4_copies_25 (by decide) ?_
        refine rb_sub [1, 2, 3, 4, 0] rfl ?_
        exact ih_l3_1 (y4_l3_1 + 1) S_l3_1 (va_up A_l3_1 0 (upd (A_l3_1 0) (x3 + y4_l3_1).toNatClampNeg ((A_l3_1 2) (x1 + y4_l3_1).toNatClampNeg))) h_3 hM hF hf
  refine rb_sub [1, 2, 3, 4, 0] rfl ?_
  exact L_l3_1 4096 0 S A h hM hF hf
def f_X4_restoreSnapshot_j13_2 (S : Nat → Int32) (A : Nat → Nat → Int32) (w0_j13_2 : Int32) : Option (Int32 × (Nat → Int32) × (Nat → Nat → Int32)) := ((f_X4_fails S A w0_j13_2).bind fun (v_8, S_5, A_6) => (if v_8 = 0 then ((f_X4_copies_2_0 S_5 A_6 0 0).bind fun (S_13, A_14) => (some (((A_14 0) 0), (upd S_13 5 0), A_14))) else (some (0, S_5, A_6))))
def f_X4_restoreSnapshot (S : Nat → Int32) (A : Nat → Nat → Int32) : Option (Int32 × (Nat → Int32) × (Nat → Nat → Int32)) := (if (S 4) = 0 then (f_X4_restoreSnapshot_j13_2 S A 1) else (f_X4_restoreSnapshot_j13_2 S A 0))
abbrev rm_X4_restoreSnapshot : Room := { frames := 1, cells := 0, slots := 0, locals := 24 }
set_option maxHeartbeats 4000000 in
theorem ct_X4_restoreSnapshot (Ev : rb_E) (h : AH) (n : Nat) (o : Nat) (a : Nat → Nat) (S : Nat → Int32) (A : Nat → Nat → Int32)  (rv : Int32) (rS : Nat → Int32) (rA : Nat → Nat → Int32) (hM : MD Ev h o a S A) (hf : f_X4_restoreSnapshot S A = some (rv, rS, rA)) : Ct Ev yX4_restoreSnapshot (ws_ yX4_restoreSnapshot cX4_restoreSnapshot 1 (some .int)) rm_X4_restoreSnapshot [.ref o] h n (pM Ev .int o a h n rv rS rA) := by
  refine Ct.of rfl (Nat.le_of_ble_eq_true rfl) fun X C hnm => ?_
  have C : Cx Ev X RX4 cX4_restoreSnapshot 1 (some .int) [] := C
  show Wa Ev X rm_X4_restoreSnapshot 1 h n 0 0 (rb_MQ Ev X rm_X4_restoreSnapshot (pM Ev .int o a h n rv rS rA)) 0 [(0, .ref o)] []
  have hF : mdFr h h o a := mdFr.rf
  rw [f_X4_restoreSnapshot] at hf
  refine rb_aload_n C dX4_restoreSnapshot_0 rfl 0 rfl ?_
  refine rb_aload_n C dX4_restoreSnapshot_1 rfl 0 rfl ?_
  refine rb_get (v := .int (S 4)) C fl_X4_338_X4 (Or.inl hM.1) rfl dX4_restoreSnapshot_2 ?_
  have J_j13_2 : ∀ (w0_j13_2 : Int32), f_X4_restoreSnapshot_j13_2 S A w0_j13_2 = some (rv, rS, rA) → Wa Ev X rm_X4_restoreSnapshot 1 h n 0 0 (rb_MQ Ev X rm_X4_restoreSnapshot (pM Ev .int o a h n rv rS rA)) 13 [(0, .ref o)] [.int w0_j13_2, .ref o] := by
    intro w0_j13_2 hf
    rw [f_X4_restoreSnapshot_j13_2] at hf
    obtain ⟨⟨v_8, S_5, A_6⟩, e_4, hf⟩ := rb_bd hf
    refine rb_zVM C mi_X4_fails sv_X4_123 (IsC.of (Or.inl hM.1) ck_X4) (ct_X4_fails Ev h n o a S A w0_j13_2 _ _ _ hM e_4) (rest := []) rfl rfl (Nat.le_of_ble_eq_true rfl) ⟨Nat.le_of_ble_eq_true rfl, Nat.le_of_ble_eq_true rfl⟩ ⟨Nat.zero_le _, Nat.zero_le _⟩ dX4_restoreSnapshot_13 (fun h_7 hM hF1 hn_9 => ?_)
    have hF := hF.tr hF1
    refine rb_if_eq (tgt := 21) C dX4_restoreSnapshot_16 (by decide) (fun c_10 => ?_) (fun c_10 => ?_)
    · have hf := (if_pos c_10).symm.trans hf
      refine rb_aload_n C dX4_restoreSnapshot_21 rfl 0 rfl ?_
      refine rb_get (v := .ref (a 2)) C fl_X4_16_X4 (Or.inl hM.1) rfl dX4_restoreSnapshot_22 ?_
      refine rb_iconst (v := 0) C dX4_restoreSnapshot_25 rfl ?_
      refine rb_aload_n C dX4_restoreSnapshot_26 rfl 0 rfl ?_
      refine rb_get (v := .ref (a 0)) C fl_X4_7_X4 (Or.inl hM.1) rfl dX4_restoreSnapshot_27 ?_
      refine rb_iconst (v := 0) C dX4_restoreSnapshot_30 rfl ?_
      obtain ⟨⟨S_13, A_14⟩, e_12, hf⟩ := rb_bd hf
      refine rb_zSMv C mi_X4_copies ss_X4_95 (ct_X4_copies_2_0 Ev h_7 n o a S_5 A_6 0 0 _ _ hM e_12) (rest := []) rfl rfl (Nat.le_of_ble_eq_true rfl) ⟨Nat.le_of_ble_eq_true rfl, Nat.le_of_ble_eq_true rfl⟩ ⟨Nat.zero_le _, Nat.zero_le _⟩ dX4_restoreSnapshot_31 (fun h_15 hM hF1 => ?_)
      have hF := hF.tr hF1
      refine rb_aload_n C dX4_restoreSnapshot_34 rfl 0 rfl ?_
      refine rb_iconst (v := 0) C dX4_restoreSnapshot_35 rfl ?_
      refine rb_put (v := .int 0) C fw_X4_92_X4 hM.1 rfl rfl (Nat.le_of_ble_eq_true rfl) dX4_restoreSnapshot_36 (fun h_17 e1 e2 => ?_)
      have hM : MD Ev h_17 o a (upd S_13 5 0) A_14 := hM.put e1 e2 rfl
      have hF := hF.put e2
      refine rb_aload_n C dX4_restoreSnapshot_39 rfl 0 rfl ?_
      refine rb_get (v := .ref (a 0)) C fl_X4_7_X4 (Or.inl hM.1) rfl dX4_restoreSnapshot_40 ?_
      refine rb_iconst (v := 0) C dX4_restoreSnapshot_43 rfl ?_
      refine rb_iald (f := (A_14 0)) C (Or.inl (hM.2.1 0 rfl)) (rb_nN (by decide)) dX4_restoreSnapshot_44 ?_
      refine rb_top (.int ((A_14 0) 0)) rfl ?_
      cases hf
      exact rb_iret C rfl rfl (Nat.zero_le _) (Nat.zero_le _) dX4_restoreSnapshot_45 ⟨rfl, rfl, hM, hF, rfl⟩
    · have hf := (if_neg c_10).symm.trans hf
      refine rb_iconst (v := 0) C dX4_restoreSnapshot_19 rfl ?_
      cases hf
      exact rb_iret C rfl rfl (Nat.zero_le _) (Nat.zero_le _) dX4_restoreSnapshot_20 ⟨rfl, rfl, hM, hF, rfl⟩
  refine rb_if_eq (tgt := 12) C dX4_restoreSnapshot_5 (by decide) (fun c_1 => ?_) (fun c_1 => ?_)
  · have hf := (if_pos c_1).symm.trans hf
    refine rb_iconst (v := 1) C dX4_restoreSnapshot_12 rfl ?_
    exact J_j13_2 1 hf
  · have hf := (if_neg c_1).symm.trans hf
    refine rb_iconst (v := 0) C dX4_restoreSnapshot_8 rfl ?_
    refine rb_goto (tgt := 13) C dX4_restoreSnapshot_9 (by decide) ?_
    exact J_j13_2 0 hf
