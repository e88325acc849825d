set_option maxRecDepth 100000
set_option linter.unusedVariables false
def f_J12_init_4_J24 (Ev : rb_E) (h : AH) (n : Nat) (o : Nat) (x1 : Option Nat) (x2 : Option Nat) : Option (Unit × AH × Nat × Nat) := (match x1 with | none => (match x2 with | none => ((hp_put h o 25 0 (.ref o)).bind fun h_1 => ((hp_so Ev "java/lang/Throwable" "UNASSIGNED_STACK").bind fun v_3 => (match v_3 with | none => ((hp_put h_1 o 25 1 (.null)).bind fun h_5 => ((hp_so Ev "java/lang/Throwable" "SUPPRESSED_SENTINEL").bind fun v_7 => (match v_7 with | none => ((hp_put h_5 o 25 2 (.null)).bind fun h_9 => ((hp_fil Ev h_9 o 25 1 4).bind fun u_11 => ((hp_put h_9 o 25 3 (.null)).bind fun h_13 => ((hp_put h_13 o 25 0 (.null)).bind fun h_15 => (some ((), h_15, 0, 0)))))) | some v_7_q => ((hp_put h_5 o 25 2 (.ref v_7_q)).bind fun h_17 => ((hp_fil Ev h_17 o 25 1 4).bind fun u_19 => ((hp_put h_17 o 25 3 (.null)).bind fun h_21 => ((hp_put h_21 o 25 0 (.null)).bind fun h_23 => (some ((), h_23, 0, 0))))))))) | some v_3_q => ((hp_put h_1 o 25 1 (.ref v_3_q)).bind fun h_25 => ((hp_so Ev "java/lang/Throwable" "SUPPRESSED_SENTINEL").bind fun v_27 => (match v_27 with | none => ((hp_put h_25 o 25 2 (.null)).bind fun h_29 => ((hp_fil Ev h_29 o 25 1 4).bind fun u_31 => ((hp_put h_29 o 25 3 (.null)).bind fun h_33 => ((hp_put h_33 o 25 0 (.null)).bind fun h_35 => (some ((), h_35, 0, 0)))))) | some v_27_q => ((hp_put h_25 o 25 2 (.ref v_27_q)).bind fun h_37 => ((hp_fil Ev h_37 o 25 1 4).bind fun u_39 => ((hp_put h_37 o 25 3 (.null)).bind fun h_41 => ((hp_put h_41 o 25 0 (.null)).bind fun h_43 => (some ((), h_43, 0, 0)))))))))))) | some x2_q => ((hp_put h o 25 0 (.ref o)).bind fun h_45 => ((hp_so Ev "java/lang/Throwable" "UNASSIGNED_STACK").bind fun v_47 => (match v_47 with | none => ((hp_put h_45 o 25 1 (.null)).bind fun h_49 => ((hp_so Ev "java/lang/Throwable" "SUPPRESSED_SENTINEL").bind fun v_51 => (match v_51 with | none => ((hp_put h_49 o 25 2 (.null)).bind fun h_53 => ((hp_fil Ev h_53 o 25 1 4).bind fun u_55 => ((hp_put h_53 o 25 3 (.null)).bind fun h_57 => ((hp_put h_57 o 25 0 (.ref x2_q)).bind fun h_59 => (some ((), h_59, 0, 0)))))) | some v_51_q => ((hp_put h_49 o 25 2 (.ref v_51_q)).bind fun h_61 => ((hp_fil Ev h_61 o 25 1 4).bind fun u_63 => ((hp_put h_61 o 25 3 (.null)).bind fun h_65 => ((hp_put h_65 o 25 0 (.ref x2_q)).bind fun h_67 => (some ((), h_67, 0, 0))))))))) | some v_47_q => ((hp_put h_45 o 25 1 (.ref v_47_q)).bind fun h_69 => ((hp_so Ev "java/lang/Throwable" "SUPPRESSED_SENTINEL").bind fun v_71 => (match v_71 with | none => ((hp_put h_69 o 25 2 (.null)).bind fun h_73 => ((hp_fil Ev h_73 o 25 1 4).bind fun u_75 => ((hp_put h_73 o 25 3 (.null)).bind fun h_77 => ((hp_put h_77 o 25 0 (.ref x2_q)).bind fun h_79 => (some ((), h_79, 0, 0)))))) | some v_71_q => ((hp_put h_69 o 25 2 (.ref v_71_q)).bind fun h_81 => ((hp_fil Ev h_81 o 25 1 4).bind fun u_83 => ((hp_put h_81 o 25 3 (.null)).bind fun h_85 => ((hp_put h_85 o 25 0 (.ref x2_q)).bind fun h_87 => (some ((), h_87, 0, 0))))))))))))) | some x1_q => (match x2 with | none => ((hp_put h o 25 0 (.ref o)).bind fun h_89 => ((hp_so Ev "java/lang/Throwable" "UNASSIGNED_STACK").bind fun v_91 => (match v_91 with | none => ((hp_put h_89 o 25 1 (.null)).bind fun h_93 => ((hp_so Ev "java/lang/Throwable" "SUPPRESSED_SENTINEL").bind fun v_95 => (match v_95 with | none => ((hp_put h_93 o 25 2 (.null)).bind fun h_97 => ((hp_fil Ev h_97 o 25 1 4).bind fun u_99 => ((hp_put h_97 o 25 3 (.ref x1_q)).bind fun h_101 => ((hp_put h_101 o 25 0 (.null)).bind fun h_103 => (some ((), h_103, 0, 0)))))) | some v_95_q => ((hp_put h_93 o 25 2 (.ref v_95_q)).bind fun h_105 => ((hp_fil Ev h_105 o 25 1 4).bind fun u_107 => ((hp_put h_105 o 25 3 (.ref x1_q)).bind fun h_109 => ((hp_put h_109 o 25 0 (.null)).bind fun h_111 => (some ((), h_111, 0, 0))))))))) | some v_91_q => ((hp_put h_89 o 25 1 (.ref v_91_q)).bind fun h_113 => ((hp_so Ev "java/lang/Throwable" "SUPPRESSED_SENTINEL").bind fun v_115 => (match v_115 with | none => ((hp_put h_113 o 25 2 (.null)).bind fun h_117 => ((hp_fil Ev h_117 o 25 1 4).bind fun u_119 => ((hp_put h_117 o 25 3 (.ref x1_q)).bind fun h_121 => ((hp_put h_121 o 25 0 (.null)).bind fun h_123 => (some ((), h_123, 0, 0)))))) | some v_115_q => ((hp_put h_113 o 25 2 (.ref v_115_q)).bind fun h_125 => ((hp_fil Ev h_125 o 25 1 4).bind fun u_127 => ((hp_put h_125 o 25 3 (.ref x1_q)).bind fun h_129 => ((hp_put h_129 o 25 0 (.null)).bind fun h_131 => (some ((), h_131, 0, 0)))))))))))) | some x2_q => ((hp_put h o 25 0 (.ref o)).bind fun h_133 => ((hp_so Ev "java/lang/Throwable" "UNASSIGNED_STACK").bind fun v_135 => (match v_135 with | none => ((hp_put h_133 o 25 1 (.null)).bind fun h_137 => ((hp_so Ev "java/lang/Throwable" "SUPPRESSED_SENTINEL").bind fun v_139 => (match v_139 with | none => ((hp_put h_137 o 25 2 (.null)).bind fun h_141 => ((hp_fil Ev h_141 o 25 1 4).bind fun u_143 => ((hp_put h_141 o 25 3 (.ref x1_q)).bind fun h_145 => ((hp_put h_145 o 25 0 (.ref x2_q)).bind fun h_147 => (some ((), h_147, 0, 0)))))) | some v_139_q => ((hp_put h_137 o 25 2 (.ref v_139_q)).bind fun h_149 => ((hp_fil Ev h_149 o 25 1 4).bind fun u_151 => ((hp_put h_149 o 25 3 (.ref x1_q)).bind fun h_153 => ((hp_put h_153 o 25 0 (.ref x2_q)).bind fun h_155 => (some ((), h_155, 0, 0))))))))) | some v_135_q => ((hp_put h_133 o 25 1 (.ref v_135_q)).bind fun h_157 => ((hp_so Ev "java/lang/Throwable" "SUPPRESSED_SENTINEL").bind fun v_159 => (match v_159 with | none => ((hp_put h_157 o 25 2 (.null)).bind fun h_161 => ((hp_fil Ev h_161 o 25 1 4).bind fun u_163 => ((hp_put h_161 o 25 3 (.ref x1_q)).bind fun h_165 => ((hp_put h_165 o 25 0 (.ref x2_q)).bind fun h_167 => (some ((), h_167, 0, 0)))))) | some v_159_q => ((hp_put h_157 o 25 2 (.ref v_159_q)).bind fun h_169 => ((hp_fil Ev h_169 o 25 1 4).bind fun u_171 => ((hp_put h_169 o 25 3 (.ref x1_q)).bind fun h_173 => ((hp_put h_173 o 25 0 (.ref x2_q)).bind fun h_175 => (some ((), h_175, 0, 0))))))))))))))
abbrev rm_J12_init_4_J24 (k s : Nat) : Room := { frames := 3, cells := k, slots := s, locals := 80 }
set_option maxHeartbeats 4000000 in
theorem ct_J12_init_4_J24 (Ev : rb_E) (h : AH) (n : Nat) (o : Nat) (x1 : Option Nat) (x2 : Option Nat) (r : Unit) (h' : AH) (k s : Nat) (hf : f_J12_init_4_J24 Ev h n o x1 x2 = some (r, h', k, s)) : Ct Ev yJ12_init_4 (ws_ yJ12_init_4 cJ12_init_4 3 none) (rm_J12_init_4_J24 k s) [.ref o, va_rf x1, va_rf x2] h n (pX (.inl (none)) h' (n + k)) := by
  unfold f_J12_init_4_J24 at hf
  cases x1 with
  | none =>
    dsimp only at hf
    cases x2 with
    | none =>
      dsimp only at hf
      refine Ct.of rfl (Nat.le_of_ble_eq_true rfl) fun X C hnm => ?_
      have C : Cx Ev X RJ12 cJ12_init_4 3 none [] := C
      show Wa Ev X (rm_J12_init_4_J24 k s) 3 h n 0 0 (rb_MQ Ev X (rm_J12_init_4_J24 k s) (pX (.inl (none)) h' (n + k))) 0 [(0, .ref o), (1, .null), (2, .null)] []
      have hb : Bd (n + k) k s n 0 0 k s := ⟨rfl, Nat.le_of_eq (Nat.zero_add _), Nat.le_of_eq (Nat.zero_add _)⟩
      refine rb_aload_n C dJ12_init_4_0 rfl 0 rfl ?_
      refine rb_objInit C q615 q123 q124 dJ12_init_4_1 (Nat.le_of_ble_eq_true rfl) (Nat.le_of_ble_eq_true rfl) ?_
      refine rb_aload_n C dJ12_init_4_4 rfl 0 rfl ?_
      refine rb_aload_n C dJ12_init_4_5 rfl 0 rfl ?_
      obtain ⟨h_1, e_2, hf⟩ := rb_bd hf
      refine rb_hput C fw_J12_7_J24 e_2 rfl rfl dJ12_init_4_6 ?_
      refine rb_aload_n C dJ12_init_4_9 rfl 0 rfl ?_
      obtain ⟨v_3, e_4, hf⟩ := rb_bd hf
      refine rb_hso C q616 q617 e_4 dJ12_init_4_10 ?_
      cases v_3 with
      | none =>
        dsimp only at hf
        obtain ⟨h_5, e_6, hf⟩ := rb_bd hf
        refine rb_hput C fw_J12_17_J24 e_6 rfl rfl dJ12_init_4_13 ?_
        refine rb_aload_n C dJ12_init_4_16 rfl 0 rfl ?_
        obtain ⟨v_7, e_8, hf⟩ := rb_bd hf
        refine rb_hso C q618 q619 e_8 dJ12_init_4_17 ?_
        cases v_7 with
        | none =>
          dsimp only at hf
          obtain ⟨h_9, e_10, hf⟩ := rb_bd hf
          refine rb_hput C fw_J12_24_J24 e_10 rfl rfl dJ12_init_4_20 ?_
          refine rb_aload_n C dJ12_init_4_23 rfl 0 rfl ?_
          obtain ⟨u_11, e_12, hf⟩ := rb_bd hf
          refine rb_hfil C ck_J24 fz_J24 (by decide) ⟨rfl, rfl, rfl⟩ (by decide) ⟨rfl, rfl, rfl⟩ q617 e_12 (Nat.le_of_ble_eq_true rfl) (Nat.le_of_ble_eq_true rfl) dJ12_init_4_24 ?_
          refine rb_pop C dJ12_init_4_27 rfl ?_
          refine rb_aload_n C dJ12_init_4_28 rfl 0 rfl ?_
          refine rb_aload_nN C dJ12_init_4_29 rfl 1 rfl ?_
          obtain ⟨h_13, e_14, hf⟩ := rb_bd hf
          refine rb_hput C fw_J12_31_J24 e_14 rfl rfl dJ12_init_4_30 ?_
          refine rb_aload_n C dJ12_init_4_33 rfl 0 rfl ?_
          refine rb_aload_nN C dJ12_init_4_34 rfl 2 rfl ?_
          obtain ⟨h_15, e_16, hf⟩ := rb_bd hf
          refine rb_hput C fw_J12_7_J24 e_16 rfl rfl dJ12_init_4_35 ?_
          cases hf
          exact rb_vret C rfl hb.e.2.1 hb.e.2.2 dJ12_init_4_38 ⟨rfl, rfl, hb.e.1⟩
        | some v_7_q =>
          dsimp only at hf
          obtain ⟨h_17, e_18, hf⟩ := rb_bd hf
          refine rb_hput C fw_J12_24_J24 e_18 rfl rfl dJ12_init_4_20 ?_
          refine rb_aload_n C dJ12_init_4_23 rfl 0 rfl ?_
          obtain ⟨u_19, e_20, hf⟩ := rb_bd hf
          refine rb_hfil C ck_J24 fz_J24 (by decide) ⟨rfl, rfl, rfl⟩ (by decide) ⟨rfl, rfl, rfl⟩ q617 e_20 (Nat.le_of_ble_eq_true rfl) (Nat.le_of_ble_eq_true rfl) dJ12_init_4_24 ?_
          refine rb_pop C dJ12_init_4_27 rfl ?_
          refine rb_aload_n C dJ12_init_4_28 rfl 0 rfl ?_
          refine rb_aload_nN C dJ12_init_4_29 rfl 1 rfl ?_
          obtain ⟨h_21, e_22, hf⟩ := rb_bd hf
          refine rb_hput C fw_J12_31_J24 e_22 rfl rfl dJ12_init_4_30 ?_
          refine rb_aload_n C dJ12_init_4_33 rfl 0 rfl ?_
          refine rb_aload_nN C dJ12_init_4_34 rfl 2 rfl ?_
          obtain ⟨h_23, e_24, hf⟩ := rb_bd hf
          refine rb_hput C fw_J12_7_J24 e_24 rfl rfl dJ12_init_4_35 ?_
          cases hf
          exact rb_vret C rfl hb.e.2.1 hb.e.2.2 dJ12_init_4_38 ⟨rfl, rfl, hb.e.1⟩
      | some v_3_q =>
        dsimp only at hf
        obtain ⟨h_25, e_26, hf⟩ := rb_bd hf
        refine rb_hput C fw_J12_17_J24 e_26 rfl rfl dJ12_init_4_13 ?_
        refine rb_aload_n C dJ12_init_4_16 rfl 0 rfl ?_
        obtain ⟨v_27, e_28, hf⟩ := rb_bd hf
        refine rb_hso C q618 q619 e_28 dJ12_init_4_17 ?_
        cases v_27 with
        | none =>
          dsimp only at hf
          obtain ⟨h_29, e_30, hf⟩ := rb_bd hf
          refine rb_hput C fw_J12_24_J24 e_30 rfl rfl dJ12_init_4_20 ?_
          refine rb_aload_n C dJ12_init_4_23 rfl 0 rfl ?_
          obtain ⟨u_31, e_32, hf⟩ := rb_bd hf
          refine rb_hfil C ck_J24 fz_J24 (by decide) ⟨rfl, rfl, rfl⟩ (by decide) ⟨rfl, rfl, rfl⟩ q617 e_32 (Nat.le_of_ble_eq_true rfl) (Nat.le_of_ble_eq_true rfl) dJ12_init_4_24 ?_
          refine rb_pop C dJ12_init_4_27 rfl ?_
          refine rb_aload_n C dJ12_init_4_28 rfl 0 rfl ?_
          refine rb_aload_nN C dJ12_init_4_29 rfl 1 rfl ?_
          obtain ⟨h_33, e_34, hf⟩ := rb_bd hf
          refine rb_hput C fw_J12_31_J24 e_34 rfl rfl dJ12_init_4_30 ?_
          refine rb_aload_n C dJ12_init_4_33 rfl 0 rfl ?_
          refine rb_aload_nN C dJ12_init_4_34 rfl 2 rfl ?_
          obtain ⟨h_35, e_36, hf⟩ := rb_bd hf
          refine rb_hput C fw_J12_7_J24 e_36 rfl rfl dJ12_init_4_35 ?_
          cases hf
          exact rb_vret C rfl hb.e.2.1 hb.e.2.2 dJ12_init_4_38 ⟨rfl, rfl, hb.e.1⟩
        | some v_27_q =>
          dsimp only at hf
          obtain ⟨h_37, e_38, hf⟩ := rb_bd hf
          refine rb_hput C fw_J12_24_J24 e_38 rfl rfl dJ12_init_4_20 ?_
          refine rb_aload_n C dJ12_init_4_23 rfl 0 rfl ?_
          obtain ⟨u_39, e_40, hf⟩ := rb_bd hf
          refine rb_hfil C ck_J24 fz_J24 (by decide) ⟨rfl, rfl, rfl⟩ (by decide) ⟨rfl, rfl, rfl⟩ q617 e_40 (Nat.le_of_ble_eq_true rfl) (Nat.le_of_ble_eq_true rfl) dJ12_init_4_24 ?_
          refine rb_pop C dJ12_init_4_27 rfl ?_
          refine rb_aload_n C dJ12_init_4_28 rfl 0 rfl ?_
          refine rb_aload_nN C dJ12_init_4_29 rfl 1 rfl ?_
          obtain ⟨h_41, e_42, hf⟩ := rb_bd hf
          refine rb_hput C fw_J12_31_J24 e_42 rfl rfl dJ12_init_4_30 ?_
          refine rb_aload_n C dJ12_init_4_33 rfl 0 rfl ?_
          refine rb_aload_nN C dJ12_init_4_34 rfl 2 rfl ?_
          obtain ⟨h_43, e_44, hf⟩ := rb_bd hf
          refine rb_hput C fw_J12_7_J24 e_44 rfl rfl dJ12_init_4_35 ?_
          cases hf
          exact rb_vret C rfl hb.e.2.1 hb.e.2.2 dJ12_init_4_38 ⟨rfl, rfl, hb.e.1⟩
    | some x2_q =>
      dsimp only at hf
      refine Ct.of rfl (Nat.le_of_ble_eq_true rfl) fun X C hnm => ?_
      have C : Cx Ev X RJ12 cJ12_init_4 3 none [] := C
      show Wa Ev X (rm_J12_init_4_J24 k s) 3 h n 0 0 (rb_MQ Ev X (rm_J12_init_4_J24 k s) (pX (.inl (none)) h' (n + k))) 0 [(0, .ref o), (1, .null), (2, .ref x2_q)] []
      have hb : Bd (n + k) k s n 0 0 k s := ⟨rfl, Nat.le_of_eq (Nat.zero_add _), Nat.le_of_eq (Nat.zero_add _)⟩
      refine rb_aload_n C dJ12_init_4_0 rfl 0 rfl ?_
      refine rb_objInit C q615 q123 q124 dJ12_init_4_1 (Nat.le_of_ble_eq_true rfl) (Nat.le_of_ble_eq_true rfl) ?_
      refine rb_aload_n C dJ12_init_4_4 rfl 0 rfl ?_
      refine rb_aload_n C dJ12_init_4_5 rfl 0 rfl ?_
      obtain ⟨h_45, e_46, hf⟩ := rb_bd hf
      refine rb_hput C fw_J12_7_J24 e_46 rfl rfl dJ12_init_4_6 ?_
      refine rb_aload_n C dJ12_init_4_9 rfl 0 rfl ?_
      obtain ⟨v_47, e_48, hf⟩ := rb_bd hf
      refine rb_hso C q616 q617 e_48 dJ12_init_4_10 ?_
      cases v_47 with
      | none =>
        dsimp only at hf
        obtain ⟨h_49, e_50, hf⟩ := rb_bd hf
        refine rb_hput C fw_J12_17_J24 e_50 rfl rfl dJ12_init_4_13 ?_
        refine rb_aload_n C dJ12_init_4_16 rfl 0 rfl ?_
        obtain ⟨v_51, e_52, hf⟩ := rb_bd hf
        refine rb_hso C q618 q619 e_52 dJ12_init_4_17 ?_
        cases v_51 with
        | none =>
          dsimp only at hf
          obtain ⟨h_53, e_54, hf⟩ := rb_bd hf
          refine rb_hput C fw_J12_24_J24 e_54 rfl rfl dJ12_init_4_20 ?_
          refine rb_aload_n C dJ12_init_4_23 rfl 0 rfl ?_
          obtain ⟨u_55, e_56, hf⟩ := rb_bd hf
          refine rb_hfil C ck_J24 fz_J24 (by decide) ⟨rfl, rfl, rfl⟩ (by decide) ⟨rfl, rfl, rfl⟩ q617 e_56 (Nat.le_of_ble_eq_true rfl) (Nat.le_of_ble_eq_true rfl) dJ12_init_4_24 ?_
          refine rb_pop C dJ12_init_4_27 rfl ?_
          refine rb_aload_n C dJ12_init_4_28 rfl 0 rfl ?_
          refine rb_aload_nN C dJ12_init_4_29 rfl 1 rfl ?_
          obtain ⟨h_57, e_58, hf⟩ := rb_bd hf
          refine rb_hput C fw_J12_31_J24 e_58 rfl rfl dJ12_init_4_30 ?_
          refine rb_aload_n C dJ12_init_4_33 rfl 0 rfl ?_
          refine rb_aload_n C dJ12_init_4_34 rfl 2 rfl ?_
          obtain ⟨h_59, e_60, hf⟩ := rb_bd hf
          refine rb_hput C fw_J12_7_J24 e_60 rfl rfl dJ12_init_4_35 ?_
          cases hf
          exact rb_vret C rfl hb.e.2.1 hb.e.2.2 dJ12_init_4_38 ⟨rfl, rfl, hb.e.1⟩
        | some v_51_q =>
          dsimp only at hf
          obtain ⟨h_61, e_62, hf⟩ := rb_bd hf
          refine rb_hput C fw_J12_24_J24 e_62 rfl rfl dJ12_init_4_20 ?_
          refine rb_aload_n C dJ12_init_4_23 rfl 0 rfl ?_
          obtain ⟨u_63, e_64, hf⟩ := rb_bd hf
          refine rb_hfil C ck_J24 fz_J24 (by decide) ⟨rfl, rfl, rfl⟩ (by decide) ⟨rfl, rfl, rfl⟩ q617 e_64 (Nat.le_of_ble_eq_true rfl) (Nat.le_of_ble_eq_true rfl) dJ12_init_4_24 ?_
          refine rb_pop C dJ12_init_4_27 rfl ?_
          refine rb_aload_n C dJ12_init_4_28 rfl 0 rfl ?_
          refine rb_aload_nN C dJ12_init_4_29 rfl 1 rfl ?_
          obtain ⟨h_65, e_66, hf⟩ := rb_bd hf
          refine rb_hput C fw_J12_31_J24 e_66 rfl rfl dJ12_init_4_30 ?_
          refine rb_aload_n C dJ12_init_4_33 rfl 0 rfl ?_
          refine rb_aload_n C dJ12_init_4_34 rfl 2 rfl ?_
          obtain ⟨h_67, e_68, hf⟩ := rb_bd hf
          refine rb_hput C fw_J12_7_J24 e_68 rfl rfl dJ12_init_4_35 ?_
          cases hf
          exact rb_vret C rfl hb.e.2.1 hb.e.2.2 dJ12_init_4_38 ⟨rfl, rfl, hb.e.1⟩
      | some v_47_q =>
        dsimp only at hf
        obtain ⟨h_69, e_70, hf⟩ := rb_bd hf
        refine rb_hput C fw_J12_17_J24 e_70 rfl rfl dJ12_init_4_13 ?_
        refine rb_aload_n C dJ12_init_4_16 rfl 0 rfl ?_
        obtain ⟨v_71, e_72, hf⟩ := rb_bd hf
        refine rb_hso C q618 q619 e_72 dJ12_init_4_17 ?_
        cases v_71 with
        | none =>
          dsimp only at hf
          obtain ⟨h_73, e_74, hf⟩ := rb_bd hf
          refine rb_hput C fw_J12_24_J24 e_74 rfl rfl dJ12_init_4_20 ?_
          refine rb_aload_n C dJ12_init_4_23 rfl 0 rfl ?_
          obtain ⟨u_75, e_76, hf⟩ := rb_bd hf
          refine rb_hfil C ck_J24 fz_J24 (by decide) ⟨rfl, rfl, rfl⟩ (by decide) ⟨rfl, rfl, rfl⟩ q617 e_76 (Nat.le_of_ble_eq_true rfl) (Nat.le_of_ble_eq_true rfl) dJ12_init_4_24 ?_
          refine rb_pop C dJ12_init_4_27 rfl ?_
          refine rb_aload_n C dJ12_init_4_28 rfl 0 rfl ?_
          refine rb_aload_nN C dJ12_init_4_29 rfl 1 rfl ?_
          obtain ⟨h_77, e_78, hf⟩ := rb_bd hf
          refine rb_hput C fw_J12_31_J24 e_78 rfl rfl dJ12_init_4_30 ?_
          refine rb_aload_n C dJ12_init_4_33 rfl 0 rfl ?_
          refine rb_aload_n C dJ12_init_4_34 rfl 2 rfl ?_
          obtain ⟨h_79, e_80, hf⟩ := rb_bd hf
          refine rb_hput C fw_J12_7_J24 e_80 rfl rfl dJ12_init_4_35 ?_
          cases hf
          exact rb_vret C rfl hb.e.2.1 hb.e.2.2 dJ12_init_4_38 ⟨rfl, rfl, hb.e.1⟩
        | some v_71_q =>
          dsimp only at hf
          obtain ⟨h_81, e_82, hf⟩ := rb_bd hf
          refine rb_hput C fw_J12_24_J24 e_82 rfl rfl dJ12_init_4_20 ?_
          refine rb_aload_n C dJ12_init_4_23 rfl 0 rfl ?_
          obtain ⟨u_83, e_84, hf⟩ := rb_bd hf
          refine rb_hfil C ck_J24 fz_J24 (by decide) ⟨rfl, rfl, rfl⟩ (by decide) ⟨rfl, rfl, rfl⟩ q617 e_84 (Nat.le_of_ble_eq_true rfl) (Nat.le_of_ble_eq_true rfl) dJ12_init_4_24 ?_
          refine rb_pop C dJ12_init_4_27 rfl ?_
          refine rb_aload_n C dJ12_init_4_28 rfl 0 rfl ?_
          refine rb_aload_nN C dJ12_init_4_29 rfl 1 rfl ?_
          obtain ⟨h_85, e_86, hf⟩ := rb_bd hf
          refine rb_hput C fw_J12_31_J24 e_86 rfl rfl dJ12_init_4_30 ?_
          refine rb_aload_n C dJ12_init_4_33 rfl 0 rfl ?_
          refine rb_aload_n C dJ12_init_4_34 rfl 2 rfl ?_
          obtain ⟨h_87, e_88, hf⟩ := rb_bd hf
          refine rb_hput C fw_J12_7_J24 e_88 rfl rfl dJ12_init_4_35 ?_
          cases hf
          exact rb_vret C rfl hb.e.2.1 hb.e.2.2 dJ12_init_4_38 ⟨rfl, rfl, hb.e.1⟩
  | some x1_q =>
    dsimp only at hf
    cases x2 with
    | none =>
      dsimp only at hf
      refine Ct.of rfl (Nat.le_of_ble_eq_true rfl) fun X C hnm => ?_
      have C : Cx Ev X RJ12 cJ12_init_4 3 none [] := C
      show Wa Ev X (rm_J12_init_4_J24 k s) 3 h n 0 0 (rb_MQ Ev X (rm_J12_init_4_J24 k s) (pX (.inl (none)) h' (n + k))) 0 [(0, .ref o), (1, .ref x1_q), (2, .null)] []
      have hb : Bd (n + k) k s n 0 0 k s := ⟨rfl, Nat.le_of_eq (Nat.zero_add _), Nat.le_of_eq (Nat.zero_add _)⟩
      refine rb_aload_n C dJ12_init_4_0 rfl 0 rfl ?_
      refine rb_objInit C q615 q123 q124 dJ12_init_4_1 (Nat.le_of_ble_eq_true rfl) (Nat.le_of_ble_eq_true rfl) ?_
      refine rb_aload_n C dJ12_init_4_4 rfl 0 rfl ?_
      refine rb_aload_n C dJ12_init_4_5 rfl 0 rfl ?_
      obtain ⟨h_89, e_90, hf⟩ := rb_bd hf
      refine rb_hput C fw_J12_7_J24 e_90 rfl rfl dJ12_init_4_6 ?_
      refine rb_aload_n C dJ12_init_4_9 rfl 0 rfl ?_
      obtain ⟨v_91, e_92, hf⟩ := rb_bd hf
      refine rb_hso C q616 q617 e_92 dJ12_init_4_10 ?_
      cases v_91 with
      | none =>
        dsimp only at hf
        obtain ⟨h_93, e_94, hf⟩ := rb_bd hf
        refine rb_hput C fw_J12_17_J24 e_94 rfl rfl dJ12_init_4_13 ?_
        refine rb_aload_n C dJ12_init_4_16 rfl 0 rfl ?_
        obtain ⟨v_95, e_96, hf⟩ := rb_bd hf
        refine rb_hso C q618 q619 e_96 dJ12_init_4_17 ?_
        cases v_95 with
        | none =>
          dsimp only at hf
          obtain ⟨h_97, e_98, hf⟩ := rb_bd hf
          refine rb_hput C fw_J12_24_J24 e_98 rfl rfl dJ12_init_4_20 ?_
          refine rb_aload_n C dJ12_init_4_23 rfl 0 rfl ?_
          obtain ⟨u_99, e_100, hf⟩ := rb_bd hf
          refine rb_hfil C ck_J24 fz_J24 (by decide) ⟨rfl, rfl, rfl⟩ (by decide) ⟨rfl, rfl, rfl⟩ q617 e_100 (Nat.le_of_ble_eq_true rfl) (Nat.le_of_ble_eq_true rfl) dJ12_init_4_24 ?_
          refine rb_pop C dJ12_init_4_27 rfl ?_
          refine rb_aload_n C dJ12_init_4_28 rfl 0 rfl ?_
          refine rb_aload_n C dJ12_init_4_29 rfl 1 rfl ?_
          obtain ⟨h_101, e_102, hf⟩ := rb_bd hf
          refine rb_hput C fw_J12_31_J24 e_102 rfl rfl dJ12_init_4_30 ?_
          refine rb_aload_n C dJ12_init_4_33 rfl 0 rfl ?_
          refine rb_aload_nN C dJ12_init_4_34 rfl 2 rfl ?_
          obtain ⟨h_103, e_104, hf⟩ := rb_bd hf
          refine rb_hput C fw_J12_7_J24 e_104 rfl rfl dJ12_init_4_35 ?_
          cases hf
          exact rb_vret C rfl hb.e.2.1 hb.e.2.2 dJ12_init_4_38 ⟨rfl, rfl, hb.e.1⟩
        | some v_95_q =>
          dsimp only at hf
          obtain ⟨h_105, e_106, hf⟩ := rb_bd hf
          refine rb_hput C fw_J12_24_J24 e_106 rfl rfl dJ12_init_4_20 ?_
          refine rb_aload_n C dJ12_init_4_23 rfl 0 rfl ?_
          obtain ⟨u_107, e_108, hf⟩ := rb_bd hf
          refine rb_hfil C ck_J24 fz_J24 (by decide) ⟨rfl, rfl, rfl⟩ (by decide) ⟨rfl, rfl, rfl⟩ q617 e_108 (Nat.le_of_ble_eq_true rfl) (Nat.le_of_ble_eq_true rfl) dJ12_init_4_24 ?_
          refine rb_pop C dJ12_init_4_27 rfl ?_
          refine rb_aload_n C dJ12_init_4_28 rfl 0 rfl ?_
          refine rb_aload_n C dJ12_init_4_29 rfl 1 rfl ?_
          obtain ⟨h_109, e_110, hf⟩ := rb_bd hf
          refine rb_hput C fw_J12_31_J24 e_110 rfl rfl dJ12_init_4_30 ?_
          refine rb_aload_n C dJ12_init_4_33 rfl 0 rfl ?_
          refine rb_aload_nN C dJ12_init_4_34 rfl 2 rfl ?_
          obtain ⟨h_111, e_112, hf⟩ := rb_bd hf
          refine rb_hput C fw_J12_7_J24 e_112 rfl rfl dJ12_init_4_35 ?_
          cases hf
          exact rb_vret C rfl hb.e.2.1 hb.e.2.2 dJ12_init_4_38 ⟨rfl, rfl, hb.e.1⟩
      | some v_91_q =>
        dsimp only at hf
        obtain ⟨h_113, e_114, hf⟩ := rb_bd hf
        refine rb_hput C fw_J12_17_J24 e_114 rfl rfl dJ12_init_4_13 ?_
        refine rb_aload_n C dJ12_init_4_16 rfl 0 rfl ?_
        obtain ⟨v_115, e_116, hf⟩ := rb_bd hf
        refine rb_hso C q618 q619 e_116 dJ12_init_4_17 ?_
        cases v_115 with
        | none =>
          dsimp only at hf
          obtain ⟨h_117, e_118, hf⟩ := rb_bd hf
          refine rb_hput C fw_J12_24_J24 e_118 rfl rfl dJ12_init_4_20 ?_
          refine rb_aload_n C dJ12_init_4_23 rfl 0 rfl ?_
          obtain ⟨u_119, e_120, hf⟩ := rb_bd hf
          refine rb_hfil C ck_J24 fz_J24 (by decide) ⟨rfl, rfl, rfl⟩ (by decide) ⟨rfl, rfl, rfl⟩ q617 e_120 (Nat.le_of_ble_eq_true rfl) (Nat.le_of_ble_eq_true rfl) dJ12_init_4_24 ?_
          refine rb_pop C dJ12_init_4_27 rfl ?_
          refine rb_aload_n C dJ12_init_4_28 rfl 0 rfl ?_
          refine rb_aload_n C dJ12_init_4_29 rfl 1 rfl ?_
          obtain ⟨h_121, e_122, hf⟩ := rb_bd hf
          refine rb_hput C fw_J12_31_J24 e_122 rfl rfl dJ12_init_4_30 ?_
          refine rb_aload_n C dJ12_init_4_33 rfl 0 rfl ?_
          refine rb_aload_nN C dJ12_init_4_34 rfl 2 rfl ?_
          obtain ⟨h_123, e_124, hf⟩ := rb_bd hf
          refine rb_hput C fw_J12_7_J24 e_124 rfl rfl dJ12_init_4_35 ?_
          cases hf
          exact rb_vret C rfl hb.e.2.1 hb.e.2.2 dJ12_init_4_38 ⟨rfl, rfl, hb.e.1⟩
        | some v_115_q =>
          dsimp only at hf
          obtain ⟨h_125, e_126, hf⟩ := rb_bd hf
          refine rb_hput C fw_J12_24_J24 e_126 rfl rfl dJ12_init_4_20 ?_
          refine rb_aload_n C dJ12_init_4_23 rfl 0 rfl ?_
          obtain ⟨u_127, e_128, hf⟩ := rb_bd hf
          refine rb_hfil C ck_J24 fz_J24 (by decide) ⟨rfl, rfl, rfl⟩ (by decide) ⟨rfl, rfl, rfl⟩ q617 e_128 (Nat.le_of_ble_eq_true rfl) (Nat.le_of_ble_eq_true rfl) dJ12_init_4_24 ?_
          refine rb_pop C dJ12_init_4_27 rfl ?_
          refine rb_aload_n C dJ12_init_4_28 rfl 0 rfl ?_
          refine rb_aload_n C dJ12_init_4_29 rfl 1 rfl ?_
          obtain ⟨h_129, e_130, hf⟩ := rb_bd hf
          refine rb_hput C fw_J12_31_J24 e_130 rfl rfl dJ12_init_4_30 ?_
          refine rb_aload_n C dJ12_init_4_33 rfl 0 rfl ?_
          refine rb_aload_nN C dJ12_init_4_34 rfl 2 rfl ?_
          obtain ⟨h_131, e_132, hf⟩ := rb_bd hf
          refine rb_hput C fw_J12_7_J24 e_132 rfl rfl dJ12_init_4_35 ?_
          cases hf
          exact rb_vret C rfl hb.e.2.1 hb.e.2.2 dJ12_init_4_38 ⟨rfl, rfl, hb.e.1⟩
    | some x2_q =>
      dsimp only at hf
      refine Ct.of rfl (Nat.le_of_ble_eq_true rfl) fun X C hnm => ?_
      have C : Cx Ev X RJ12 cJ12_init_4 3 none [] := C
      show Wa Ev X (rm_J12_init_4_J24 k s) 3 h n 0 0 (rb_MQ Ev X (rm_J12_init_4_J24 k s) (pX (.inl (none)) h' (n + k))) 0 [(0, .ref o), (1, .ref x1_q), (2, .ref x2_q)] []
      have hb : Bd (n + k) k s n 0 0 k s := ⟨rfl, Nat.le_of_eq (Nat.zero_add _), Nat.le_of_eq (Nat.zero_add _)⟩
      refine rb_aload_n C dJ12_init_4_0 rfl 0 rfl ?_
      refine rb_objInit C q615 q123 q124 dJ12_init_4_1 (Nat.le_of_ble_eq_true rfl) (Nat.le_of_ble_eq_true rfl) ?_
      refine rb_aload_n C dJ12_init_4_4 rfl 0 rfl ?_
      refine rb_aload_n C dJ12_init_4_5 rfl 0 rfl ?_
      obtain ⟨h_133, e_134, hf⟩ := rb_bd hf
      refine rb_hput C fw_J12_7_J24 e_134 rfl rfl dJ12_init_4_6 ?_
      refine rb_aload_n C dJ12_init_4_9 rfl 0 rfl ?_
      obtain ⟨v_135, e_136, hf⟩ := rb_bd hf
      refine rb_hso C q616 q617 e_136 dJ12_init_4_10 ?_
      cases v_135 with
      | none =>
        dsimp only at hf
        obtain ⟨h_137, e_138, hf⟩ := rb_bd hf
        refine rb_hput C fw_J12_17_J24 e_138 rfl rfl dJ12_init_4_13 ?_
        refine rb_aload_n C dJ12_init_4_16 rfl 0 rfl ?_
        obtain ⟨v_139, e_140, hf⟩ := rb_bd hf
        refine rb_hso C q618 q619 e_140 dJ12_init_4_17 ?_
        cases v_139 with
        | none =>
          dsimp only at hf
          obtain ⟨h_141, e_142, hf⟩ := rb_bd hf
          refine rb_hput C fw_J12_24_J24 e_142 rfl rfl dJ12_init_4_20 ?_
          refine rb_aload_n C dJ12_init_4_23 rfl 0 rfl ?_
          obtain ⟨u_143, e_144, hf⟩ := rb_bd hf
          refine rb_hfil C ck_J24 fz_J24 (by decide) ⟨rfl, rfl, rfl⟩ (by decide) ⟨rfl, rfl, rfl⟩ q617 e_144 (Nat.le_of_ble_eq_true rfl) (Nat.le_of_ble_eq_true rfl) dJ12_init_4_24 ?_
          refine rb_pop C dJ12_init_4_27 rfl ?_
          refine rb_aload_n C dJ12_init_4_28 rfl 0 rfl ?_
          refine rb_aload_n C dJ12_init_4_29 rfl 1 rfl ?_
          obtain ⟨h_145, e_146, hf⟩ := rb_bd hf
          refine rb_hput C fw_J12_31_J24 e_146 rfl rfl dJ12_init_4_30 ?_
          refine rb_aload_n C dJ12_init_4_33 rfl 0 rfl ?_
          refine rb_aload_n C dJ12_init_4_34 rfl 2 rfl ?_
          obtain ⟨h_147, e_148, hf⟩ := rb_bd hf
          refine rb_hput C fw_J12_7_J24 e_148 rfl rfl dJ12_init_4_35 ?_
          cases hf
          exact rb_vret C rfl hb.e.2.1 hb.e.2.2 dJ12_init_4_38 ⟨rfl, rfl, hb.e.1⟩
        | some v_139_q =>
          dsimp only at hf
          obtain ⟨h_149, e_150, hf⟩ := rb_bd hf
          refine rb_hput C fw_J12_24_J24 e_150 rfl rfl dJ12_init_4_20 ?_
          refine rb_aload_n C dJ12_init_4_23 rfl 0 rfl ?_
          obtain ⟨u_151, e_152, hf⟩ := rb_bd hf
          refine rb_hfil C ck_J24 fz_J24 (by decide) ⟨rfl, rfl, rfl⟩ (by decide) ⟨rfl, rfl, rfl⟩ q617 e_152 (Nat.le_of_ble_eq_true rfl) (Nat.le_of_ble_eq_true rfl) dJ12_init_4_24 ?_
          refine rb_pop C dJ12_init_4_27 rfl ?_
          refine rb_aload_n C dJ12_init_4_28 rfl 0 rfl ?_
          refine rb_aload_n C dJ12_init_4_29 rfl 1 rfl ?_
          obtain ⟨h_153, e_154, hf⟩ := rb_bd hf
          refine rb_hput C fw_J12_31_J24 e_154 rfl rfl dJ12_init_4_30 ?_
          refine rb_aload_n C dJ12_init_4_33 rfl 0 rfl ?_
          refine rb_aload_n C dJ12_init_4_34 rfl 2 rfl ?_
          obtain ⟨h_155, e_156, hf⟩ := rb_bd hf
          refine rb_hput C fw_J12_7_J24 e_156 rfl rfl dJ12_init_4_35 ?_
          cases hf
          exact rb_vret C rfl hb.e.2.1 hb.e.2.2 dJ12_init_4_38 ⟨rfl, rfl, hb.e.1⟩
      | some v_135_q =>
        dsimp only at hf
        obtain ⟨h_157, e_158, hf⟩ := rb_bd hf
        refine rb_hput C fw_J12_17_J24 e_158 rfl rfl dJ12_init_4_13 ?_
        refine rb_aload_n C dJ12_init_4_16 rfl 0 rfl ?_
        obtain ⟨v_159, e_160, hf⟩ := rb_bd hf
        refine rb_hso C q618 q619 e_160 dJ12_init_4_17 ?_
        cases v_159 with
        | none =>
          dsimp only at hf
          obtain ⟨h_161, e_162, hf⟩ := rb_bd hf
          refine rb_hput C fw_J12_24_J24 e_162 rfl rfl dJ12_init_4_20 ?_
          refine rb_aload_n C dJ12_init_4_23 rfl 0 rfl ?_
          obtain ⟨u_163, e_164, hf⟩ := rb_bd hf
          refine rb_hfil C ck_J24 fz_J24 (by decide) ⟨rfl, rfl, rfl⟩ (by decide) ⟨rfl, rfl, rfl⟩ q617 e_164 (Nat.le_of_ble_eq_true rfl) (Nat.le_of_ble_eq_true rfl) dJ12_init_4_24 ?_
          refine rb_pop C dJ12_init_4_27 rfl ?_
          refine rb_aload_n C dJ12_init_4_28 rfl 0 rfl ?_
          refine rb_aload_n C dJ12_init_4_29 rfl 1 rfl ?_
          obtain ⟨h_165, e_166, hf⟩ := rb_bd hf
          refine rb_hput C fw_J12_31_J24 e_166 rfl rfl dJ12_init_4_30 ?_
          refine rb_aload_n C dJ12_init_4_33 rfl 0 rfl ?_
          refine rb_aload_n C dJ12_init_4_34 rfl 2 rfl ?_
          obtain ⟨h_167, e_168, hf⟩ := rb_bd hf
          refine rb_hput C fw_J12_7_J24 e_168 rfl rfl dJ12_init_4_35 ?_
          cases hf
          exact rb_vret C rfl hb.e.2.1 hb.e.2.2 dJ12_init_4_38 ⟨rfl, rfl, hb.e.1⟩
        | some v_159_q =>
          dsimp only at hf
          obtain ⟨h_169, e_170, hf⟩ := rb_bd hf
          refine rb_hput C fw_J12_24_J24 e_170 rfl rfl dJ12_init_4_20 ?_
          refine rb_aload_n C dJ12_init_4_23 rfl 0 rfl ?_
          obtain ⟨u_171, e_172, hf⟩ := rb_bd hf
          refine rb_hfil C ck_J24 fz_J24 (by decide) ⟨rfl, rfl, rfl⟩ (by decide) ⟨rfl, rfl, rfl⟩ q617 e_172 (Nat.le_of_ble_eq_true rfl) (Nat.le_of_ble_eq_true rfl) dJ12_init_4_24 ?_
          refine rb_pop C dJ12_init_4_27 rfl ?_
          refine rb_aload_n C dJ12_init_4_28 rfl 0 rfl ?_
          refine rb_aload_n C dJ12_init_4_29 rfl 1 rfl ?_
          obtain ⟨h_173, e_174, hf⟩ := rb_bd hf
          refine rb_hput C fw_J12_31_J24 e_174 rfl rfl dJ12_init_4_30 ?_
          refine rb_aload_n C dJ12_init_4_33 rfl 0 rfl ?_
          refine rb_aload_n C dJ12_init_4_34 rfl 2 rfl ?_
          obtain ⟨h_175, e_176, hf⟩ := rb_bd hf
          refine rb_hput C fw_J12_7_J24 e_176 rfl rfl dJ12_init_4_35 ?_
          cases hf
          exact rb_vret C rfl hb.e.2.1 hb.e.2.2 dJ12_init_4_38 ⟨rfl, rfl, hb.e.1⟩
def f_J13_init_4_J24 (Ev : rb_E) (h : AH) (n : Nat) (o : Nat) (x1 : Option Nat) (x2 : Option Nat) : Option (Unit × AH × Nat × Nat) := (match x1 with | none => (match x2 with | none => ((f_J12_init_4_J24 Ev h n o none none).bind fun (r_2, h_3, k_4, s_5) => (ad k_4 s_5 (some ((), h_3, 0, 0)))) | some x2_q => ((f_J12_init_4_J24 Ev h n o none (some x2_q)).bind fun (r_12, h_13, k_14, s_15) => (ad k_14 s_15 (some ((), h_13, 0, 0))))) | some x1_q => (match x2 with | none => ((f_J12_init_4_J24 Ev h n o (some x1_q) none).bind fun (r_22, h_23, k_24, s_25) => (ad k_24 s_25 (some ((), h_23, 0, 0)))) | some x2_q => ((f_J12_init_4_J24 Ev h n o (some x1_q) (some x2_q)).bind fun (r_32, h_33, k_34, s_35) => (ad k_34 s_35 (some ((), h_33, 0, 0))))))
abbrev rm_J13_init_4_J24 (k s : Nat) : Room := { frames := 4, cells := k, slots := s, locals := 102 }
set_option maxHeartbeats 4000000 in
theorem ct_J13_init_4_J24 (Ev : rb_E) (h : AH) (n : Nat) (o : Nat) (x1 : Option Nat) (x2 : Option Nat) (r : Unit) (h' : AH) (k s : Nat) (hf : f_J13_init_4_J24 Ev h n o x1 x2 = some (r, h', k, s)) : Ct Ev yJ13_init_4 (ws_ yJ13_init_4 cJ13_init_4 3 none) (rm_J13_init_4_J24 k s) [.ref o, va_rf x1, va_rf x2] h n (pX (.inl (none)) h' (n + k)) := by
  unfold f_J13_init_4_J24 at hf
  cases x1 with
  | none =>
    dsimp only at hf
    cases x2 with
    | none =>
      dsimp only at hf
      refine Ct.of rfl (Nat.le_of_ble_eq_true rfl) fun X C hnm => ?_
      have C : Cx Ev X RJ13 cJ13_init_4 3 none [] := C
      show Wa Ev X (rm_J13_init_4_J24 k s) 3 h n 0 0 (rb_MQ Ev X (rm_J13_init_4_J24 k s) (pX (.inl (none)) h' (n + k))) 0 [(0, .ref o), (1, .null), (2, .null)] []
      have hb : Bd (n + k) k s n 0 0 k s := ⟨rfl, Nat.le_of_eq (Nat.zero_add _), Nat.le_of_eq (Nat.zero_add _)⟩
      refine rb_aload_n C dJ13_init_4_0 rfl 0 rfl ?_
      refine rb_aload_nN C dJ13_init_4_1 rfl 1 rfl ?_
      refine rb_aload_nN C dJ13_init_4_2 rfl 2 rfl ?_
      obtain ⟨⟨r_2, h_3, k_4, s_5⟩, e_6, hf⟩ := rb_bd hf
      obtain ⟨a_9, b_10, hf, ea_7, eb_8⟩ := ad_at hf
      refine rb_callI (As := [.null, .null]) (rest := []) C mi_J12_init_4 si_J13_10 (ct_J12_init_4_J24 Ev h n o none none r_2 _ _ _ e_6) rfl rfl (Nat.le_of_ble_eq_true rfl) ⟨Nat.le_of_ble_eq_true rfl, Nat.le_of_ble_eq_true rfl, Bd.c1 hb ea_7, Bd.s1 hb eb_8⟩ dJ13_init_4_3 rb_xX (rb_kX (rb_w (kc := (0 + k_4)) (ks := (0 + s_5)) rfl rfl ?_))
      have hb := Bd.ade hb ea_7 eb_8
      cases hf
      exact rb_vret C rfl hb.e.2.1 hb.e.2.2 dJ13_init_4_6 ⟨rfl, rfl, hb.e.1⟩
    | some x2_q =>
      dsimp only at hf
      refine Ct.of rfl (Nat.le_of_ble_eq_true rfl) fun X C hnm => ?_
      have C : Cx Ev X RJ13 cJ13_init_4 3 none [] := C
      show Wa Ev X (rm_J13_init_4_J24 k s) 3 h n 0 0 (rb_MQ Ev X (rm_J13_init_4_J24 k s) (pX (.inl (none)) h' (n + k))) 0 [(0, .ref o), (1, .null), (2, .ref x2_q)] []
      have hb : Bd (n + k) k s n 0 0 k s := ⟨rfl, Nat.le_of_eq (Nat.zero_add _), Nat.le_of_eq (Nat.zero_add _)⟩
      refine rb_aload_n C dJ13_init_4_0 rfl 0 rfl ?_
      refine rb_aload_nN C dJ13_init_4_1 rfl 1 rfl ?_
      refine rb_aload_n C dJ13_init_4_2 rfl 2 rfl ?_
      obtain ⟨⟨r_12, h_13, k_14, s_15⟩, e_16, hf⟩ := rb_bd hf
      obtain ⟨a_19, b_20, hf, ea_17, eb_18⟩ := ad_at hf
      refine rb_callI (As := [.null, .ref x2_q]) (rest := []) C mi_J12_init_4 si_J13_10 (ct_J12_init_4_J24 Ev h n o none (some x2_q) r_12 _ _ _ e_16) rfl rfl (Nat.le_of_ble_eq_true rfl) ⟨Nat.le_of_ble_eq_true rfl, Nat.le_of_ble_eq_true rfl, Bd.c1 hb ea_17, Bd.s1 hb eb_18⟩ dJ13_init_4_3 rb_xX (rb_kX (rb_w (kc := (0 + k_14)) (ks := (0 + s_15)) rfl rfl ?_))
      have hb := Bd.ade hb ea_17 eb_18
      cases hf
      exact rb_vret C rfl hb.e.2.1 hb.e.2.2 dJ13_init_4_6 ⟨rfl, rfl, hb.e.1⟩
  | some x1_q =>
    dsimp only at hf
    cases x2 with
    | none =>
      dsimp only at hf
      refine Ct.of rfl (Nat.le_of_ble_eq_true rfl) fun X C hnm => ?_
      have C : Cx Ev X RJ13 cJ13_init_4 3 none [] := C
      show Wa Ev X (rm_J13_init_4_J24 k s) 3 h n 0 0 (rb_MQ Ev X (rm_J13_init_4_J24 k s) (pX (.inl (none)) h' (n + k))) 0 [(0, .ref o), (1, .ref x1_q), (2, .null)] []
      have hb : Bd (n + k) k s n 0 0 k s := ⟨rfl, Nat.le_of_eq (Nat.zero_add _), Nat.le_of_eq (Nat.zero_add _)⟩
      refine rb_aload_n C dJ13_init_4_0 rfl 0 rfl ?_
      refine rb_aload_n C dJ13_init_4_1 rfl 1 rfl ?_
      refine rb_aload_nN C dJ13_init_4_2 rfl 2 rfl ?_
      obtain ⟨⟨r_22, h_23, k_24, s_25⟩, e_26, hf⟩ := rb_bd hf
      obtain ⟨a_29, b_30, hf, ea_27, eb_28⟩ := ad_at hf
      refine rb_callI (As := [.ref x1_q, .null]) (rest := []) C mi_J12_init_4 si_J13_10 (ct_J12_init_4_J24 Ev h n o (some x1_q) none r_22 _ _ _ e_26) rfl rfl (Nat.le_of_ble_eq_true rfl) ⟨Nat.le_of_ble_eq_true rfl, Nat.le_of_ble_eq_true rfl, Bd.c1 hb ea_27, Bd.s1 hb eb_28⟩ dJ13_init_4_3 rb_xX (rb_kX (rb_w (kc := (0 + k_24)) (ks := (0 + s_25)) rfl rfl ?_))
      have hb := Bd.ade hb ea_27 eb_28
      cases hf
      exact rb_vret C rfl hb.e.2.1 hb.e.2.2 dJ13_init_4_6 ⟨rfl, rfl, hb.e.1⟩
    | some x2_q =>
      dsimp only at hf
      refine Ct.of rfl (Nat.le_of_ble_eq_true rfl) fun X C hnm => ?_
      have C : Cx Ev X RJ13 cJ13_init_4 3 none [] := C
      show Wa Ev X (rm_J13_init_4_J24 k s) 3 h n 0 0 (rb_MQ Ev X (rm_J13_init_4_J24 k s) (pX (.inl (none)) h' (n + k))) 0 [(0, .ref o), (1, .ref x1_q), (2, .ref x2_q)] []
      have hb : Bd (n + k) k s n 0 0 k s := ⟨rfl, Nat.le_of_eq (Nat.zero_add _), Nat.le_of_eq (Nat.zero_add _)⟩
      refine rb_aload_n C dJ13_init_4_0 rfl 0 rfl ?_
      refine rb_aload_n C dJ13_init_4_1 rfl 1 rfl ?_
      refine rb_aload_n C dJ13_init_4_2 rfl 2 rfl ?_
      obtain ⟨⟨r_32, h_33, k_34, s_35⟩, e_36, hf⟩ := rb_bd hf
      obtain ⟨a_39, b_40, hf, ea_37, eb_38⟩ := ad_at hf
      refine rb_callI (As := [.ref x1_q, .ref x2_q]) (rest := []) C mi_J12_init_4 si_J13_10 (ct_J12_init_4_J24 Ev h n o (some x1_q) (some x2_q) r_32 _ _ _ e_36) rfl rfl (Nat.le_of_ble_eq_true rfl) ⟨Nat.le_of_ble_eq_true rfl, Nat.le_of_ble_eq_true rfl, Bd.c1 hb ea_37, Bd.s1 hb eb_38⟩ dJ13_init_4_3 rb_xX (rb_kX (rb_w (kc := (0 + k_34)) (ks := (0 + s_35)) rfl rfl ?_))
      have hb := Bd.ade hb ea_37 eb_38
      cases hf
      exact rb_vret C rfl hb.e.2.1 hb.e.2.2 dJ13_init_4_6 ⟨rfl, rfl, hb.e.1⟩
def f_J14_init_3_J24 (Ev : rb_E) (h : AH) (n : Nat) (o : Nat) (x1 : Option Nat) (x2 : Option Nat) : Option (Unit × AH × Nat × Nat) := (match x1 with | none => (match x2 with | none => ((f_J13_init_4_J24 Ev h n o none none).bind fun (r_2, h_3, k_4, s_5) => (ad k_4 s_5 (some ((), h_3, 0, 0)))) | some x2_q => ((f_J13_init_4_J24 Ev h n o none (some x2_q)).bind fun (r_12, h_13, k_14, s_15) => (ad k_14 s_15 (some ((), h_13, 0, 0))))) | some x1_q => (match x2 with | none => ((f_J13_init_4_J24 Ev h n o (some x1_q) none).bind fun (r_22, h_23, k_24, s_25) => (ad k_24 s_25 (some ((), h_23, 0, 0)))) | some x2_q => ((f_J13_init_4_J24 Ev h n o (some x1_q) (some x2_q)).bind fun (r_32, h_33, k_34, s_35) => (ad k_34 s_35 (some ((), h_33, 0, 0))))))
abbrev rm_J14_init_3_J24 (k s : Nat) : Room := { frames := 5, cells := k, slots := s, locals := 124 }
set_option maxHeartbeats 4000000 in
theorem ct_J14_init_3_J24 (Ev : rb_E) (h : AH) (n : Nat) (o : Nat) (x1 : Option Nat) (x2 : Option Nat) (r : Unit) (h' : AH) (k s : Nat) (hf : f_J14_init_3_J24 Ev h n o x1 x2 = some (r, h', k, s)) : Ct Ev yJ14_init_3 (ws_ yJ14_init_3 cJ14_init_3 3 none) (rm_J14_init_3_J24 k s) [.ref o, va_rf x1, va_rf x2] h n (pX (.inl (none)) h' (n + k)) := by
  unfold f_J14_init_3_J24 at hf
  cases x1 with
  | none =>
    dsimp only at hf
    cases x2 with
    | none =>
      dsimp only at hf
      refine Ct.of rfl (Nat.le_of_ble_eq_true rfl) fun X C hnm => ?_
      have C : Cx Ev X RJ14 cJ14_init_3 3 none [] := C
      show Wa Ev X (rm_J14_init_3_J24 k s) 3 h n 0 0 (rb_MQ Ev X (rm_J14_init_3_J24 k s) (pX (.inl (none)) h' (n + k))) 0 [(0, .ref o), (1, .null), (2, .null)] []
      have hb : Bd (n + k) k s n 0 0 k s := ⟨rfl, Nat.le_of_eq (Nat.zero_add _), Nat.le_of_eq (Nat.zero_add _)⟩
      refine rb_aload_n C dJ14_init_3_0 rfl 0 rfl ?_
      refine rb_aload_nN C dJ14_init_3_1 rfl 1 rfl ?_
      refine rb_aload_nN C dJ14_init_3_2 rfl 2 rfl ?_
      obtain ⟨⟨r_2, h_3, k_4, s_5⟩, e_6, hf⟩ := rb_bd hf
      obtain ⟨a_9, b_10, hf, ea_7, eb_8⟩ := ad_at hf
      refine rb_callI (As := [.null, .null]) (rest := []) C mi_J13_init_4 si_J14_10 (ct_J13_init_4_J24 Ev h n o none none r_2 _ _ _ e_6) rfl rfl (Nat.le_of_ble_eq_true rfl) ⟨Nat.le_of_ble_eq_true rfl, Nat.le_of_ble_eq_true rfl, Bd.c1 hb ea_7, Bd.s1 hb eb_8⟩ dJ14_init_3_3 rb_xX (rb_kX (rb_w (kc := (0 + k_4)) (ks := (0 + s_5)) rfl rfl ?_))
      have hb := Bd.ade hb ea_7 eb_8
      cases hf
      exact rb_vret C rfl hb.e.2.1 hb.e.2.2 dJ14_init_3_6 ⟨rfl, rfl, hb.e.1⟩
    | some x2_q =>
      dsimp only at hf
      refine Ct.of rfl (Nat.le_of_ble_eq_true rfl) fun X C hnm => ?_
      have C : Cx Ev X RJ14 cJ14_init_3 3 none [] := C
      show Wa Ev X (rm_J14_init_3_J24 k s) 3 h n 0 0 (rb_MQ Ev X (rm_J14_init_3_J24 k s) (pX (.inl (none)) h' (n + k))) 0 [(0, .ref o), (1, .null), (2, .ref x2_q)] []
      have hb : Bd (n + k) k s n 0 0 k s := ⟨rfl, Nat.le_of_eq (Nat.zero_add _), Nat.le_of_eq (Nat.zero_add _)⟩
      refine rb_aload_n C dJ14_init_3_0 rfl 0 rfl ?_
      refine rb_aload_nN C dJ14_init_3_1 rfl 1 rfl ?_
      refine rb_aload_n C dJ14_init_3_2 rfl 2 rfl ?_
      obtain ⟨⟨r_12, h_13, k_14, s_15⟩, e_16, hf⟩ := rb_bd hf
      obtain ⟨a_19, b_20, hf, ea_17, eb_18⟩ := ad_at hf
      refine rb_callI (As := [.null, .ref x2_q]) (rest := []) C mi_J13_init_4 si_J14_10 (ct_J13_init_4_J24 Ev h n o none (some x2_q) r_12 _ _ _ e_16) rfl rfl (Nat.le_of_ble_eq_true rfl) ⟨Nat.le_of_ble_eq_true rfl, Nat.le_of_ble_eq_true rfl, Bd.c1 hb ea_17, Bd.s1 hb eb_18⟩ dJ14_init_3_3 rb_xX (rb_kX (rb_w (kc := (0 + k_14)) (ks := (0 + s_15)) rfl rfl ?_))
      have hb := Bd.ade hb ea_17 eb_18
      cases hf
      exact rb_vret C rfl hb.e.2.1 hb.e.2.2 dJ14_init_3_6 ⟨rfl, rfl, hb.e.1⟩
  | some x1_q =>
    dsimp only at hf
    cases x2 with
    | none =>
      dsimp only at hf
      refine Ct.of rfl (Nat.le_of_ble_eq_true rfl) fun X C hnm => ?_
      have C : Cx Ev X RJ14 cJ14_init_3 3 none [] := C
      show Wa Ev X (rm_J14_init_3_J24 k s) 3 h n 0 0 (rb_MQ Ev X (rm_J14_init_3_J24 k s) (pX (.inl (none)) h' (n + k))) 0 [(0, .ref o), (1, .ref x1_q), (2, .null)] []
      have hb : Bd (n + k) k s n 0 0 k s := ⟨rfl, Nat.le_of_eq (Nat.zero_add _), Nat.le_of_eq (Nat.zero_add _)⟩
      refine rb_aload_n C dJ14_init_3_0 rfl 0 rfl ?_
      refine rb_aload_n C dJ14_init_3_1 rfl 1 rfl ?_
      refine rb_aload_nN C dJ14_init_3_2 rfl 2 rfl ?_
      obtain ⟨⟨r_22, h_23, k_24, s_25⟩, e_26, hf⟩ := rb_bd hf
      obtain ⟨a_29, b_30, hf, ea_27, eb_28⟩ := ad_at hf
      refine rb_callI (As := [.ref x1_q, .null]) (rest := []) C mi_J13_init_4 si_J14_10 (ct_J13_init_4_J24 Ev h n o (some x1_q) none r_22 _ _ _ e_26) rfl rfl (Nat.le_of_ble_eq_true rfl) ⟨Nat.le_of_ble_eq_true rfl, Nat.le_of_ble_eq_true rfl, Bd.c1 hb ea_27, Bd.s1 hb eb_28⟩ dJ14_init_3_3 rb_xX (rb_kX (rb_w (kc := (0 + k_24)) (ks := (0 + s_25)) rfl rfl ?_))
      have hb := Bd.ade hb ea_27 eb_28
      cases hf
      exact rb_vret C rfl hb.e.2.1 hb.e.2.2 dJ14_init_3_6 ⟨rfl, rfl, hb.e.1⟩
    | some x2_q =>
      dsimp only at hf
      refine Ct.of rfl (Nat.le_of_ble_eq_true rfl) fun X C hnm => ?_
      have C : Cx Ev X RJ14 cJ14_init_3 3 none [] := C
      show Wa Ev X (rm_J14_init_3_J24 k s) 3 h n 0 0 (rb_MQ Ev X (rm_J14_init_3_J24 k s) (pX (.inl (none)) h' (n + k))) 0 [(0, .ref o), (1, .ref x1_q), (2, .ref x2_q)] []
      have hb : Bd (n + k) k s n 0 0 k s := ⟨rfl, Nat.le_of_eq (Nat.zero_add _), Nat.le_of_eq (Nat.zero_add _)⟩
      refine rb_aload_n C dJ14_init_3_0 rfl 0 rfl ?_
      refine rb_aload_n C dJ14_init_3_1 rfl 1 rfl ?_
      refine rb_aload_n C dJ14_init_3_2 rfl 2 rfl ?_
      obtain ⟨⟨r_32, h_33, k_34, s_35⟩, e_36, hf⟩ := rb_bd hf
      obtain ⟨a_39, b_40, hf, ea_37, eb_38⟩ := ad_at hf
      refine rb_callI (As := [.ref x1_q, .ref x2_q]) (rest := []) C mi_J13_init_4 si_J14_10 (ct_J13_init_4_J24 Ev h n o (some x1_q) (some x2_q) r_32 _ _ _ e_36) rfl rfl (Nat.le_of_ble_eq_true rfl) ⟨Nat.le_of_ble_eq_true rfl, Nat.le_of_ble_eq_true rfl, Bd.c1 hb ea_37, Bd.s1 hb eb_38⟩ dJ14_init_3_3 rb_xX (rb_kX (rb_w (kc := (0 + k_34)) (ks := (0 + s_35)) rfl rfl ?_))
      have hb := Bd.ade hb ea_37 eb_38
      cases hf
      exact rb_vret C rfl hb.e.2.1 hb.e.2.2 dJ14_init_3_6 ⟨rfl, rfl, hb.e.1⟩
def f_J24_init (Ev : rb_E) (h : AH) (n : Nat) (o : Nat) (x1 : Option Nat) (x2 : Option Nat) : Option (Unit × AH × Nat × Nat) := (match x1 with | none => (match x2 with | none => ((f_J14_init_3_J24 Ev h n o none none).bind fun (r_2, h_3, k_4, s_5) => (ad k_4 s_5 (some ((), h_3, 0, 0)))) | some x2_q => ((f_J14_init_3_J24 Ev h n o none (some x2_q)).bind fun (r_12, h_13, k_14, s_15) => (ad k_14 s_15 (some ((), h_13, 0, 0))))) | some x1_q => (match x2 with | none => ((f_J14_init_3_J24 Ev h n o (some x1_q) none).bind fun (r_22, h_23, k_24, s_25) => (ad k_24 s_25 (some ((), h_23, 0, 0)))) | some x2_q => ((f_J14_init_3_J24 Ev h n o (some x1_q) (some x2_q)).bind fun (r_32, h_33, k_34, s_35) => (ad k_34 s_35 (some ((), h_33, 0, 0))))))
abbrev rm_J24_init (k s : Nat) : Room := { frames := 6, cells := k, slots := s, locals := 146 }
set_option maxHeartbeats 4000000 in
theorem ct_J24_init (Ev : rb_E) (h : AH) (n : Nat) (o : Nat) (x1 : Option Nat) (x2 : Option Nat) (r : Unit) (h' : AH) (k s : Nat) (hf : f_J24_init Ev h n o x1 x2 = some (r, h', k, s)) : Ct Ev yJ24_init (ws_ yJ24_init cJ24_init 3 none) (rm_J24_init k s) [.ref o, va_rf x1, va_rf x2] h n (pX (.inl (none)) h' (n + k)) := by
  unfold f_J24_init at hf
  cases x1 with
  | none =>
    dsimp only at hf
    cases x2 with
    | none =>
      dsimp only at hf
      refine Ct.of rfl (Nat.le_of_ble_eq_true rfl) fun X C hnm => ?_
      have C : Cx Ev X RJ24 cJ24_init 3 none [] := C
      show Wa Ev X (rm_J24_init k s) 3 h n 0 0 (rb_MQ Ev X (rm_J24_init k s) (pX (.inl (none)) h' (n + k))) 0 [(0, .ref o), (1, .null), (2, .null)] []
      have hb : Bd (n + k) k s n 0 0 k s := ⟨rfl, Nat.le_of_eq (Nat.zero_add _), Nat.le_of_eq (Nat.zero_add _)⟩
      refine rb_aload_n C dJ24_init_0 rfl 0 rfl ?_
      refine rb_aload_nN C dJ24_init_1 rfl 1 rfl ?_
      refine rb_aload_nN C dJ24_init_2 rfl 2 rfl ?_
      obtain ⟨⟨r_2, h_3, k_4, s_5⟩, e_6, hf⟩ := rb_bd hf
      obtain ⟨a_9, b_10, hf, ea_7, eb_8⟩ := ad_at hf
      refine rb_callI (As := [.null, .null]) (rest := []) C mi_J14_init_3 si_J24_10 (ct_J14_init_3_J24 Ev h n o none none r_2 _ _ _ e_6) rfl rfl (Nat.le_of_ble_eq_true rfl) ⟨Nat.le_of_ble_eq_true rfl, Nat.le_of_ble_eq_true rfl, Bd.c1 hb ea_7, Bd.s1 hb eb_8⟩ dJ24_init_3 rb_xX (rb_kX (rb_w (kc := (0 + k_4)) (ks := (0 + s_5)) rfl rfl ?_))
      have hb := Bd.ade hb ea_7 eb_8
      cases hf
      exact rb_vret C rfl hb.e.2.1 hb.e.2.2 dJ24_init_6 ⟨rfl, rfl, hb.e.1⟩
    | some x2_q =>
      dsimp only at hf
      refine Ct.of rfl (Nat.le_of_ble_eq_true rfl) fun X C hnm => ?_
      have C : Cx Ev X RJ24 cJ24_init 3 none [] := C
      show Wa Ev X (rm_J24_init k s) 3 h n 0 0 (rb_MQ Ev X (rm_J24_init k s) (pX (.inl (none)) h' (n + k))) 0 [(0, .ref o), (1, .null), (2, .ref x2_q)] []
      have hb : Bd (n + k) k s n 0 0 k s := ⟨rfl, Nat.le_of_eq (Nat.zero_add _), Nat.le_of_eq (Nat.zero_add _)⟩
      refine rb_aload_n C dJ24_init_0 rfl 0 rfl ?_
      refine rb_aload_nN C dJ24_init_1 rfl 1 rfl ?_
      refine rb_aload_n C dJ24_init_2 rfl 2 rfl ?_
      obtain ⟨⟨r_12, h_13, k_14, s_15⟩, e_16, hf⟩ := rb_bd hf
      obtain ⟨a_19, b_20, hf, ea_17, eb_18⟩ := ad_at hf
      refine rb_callI (As := [.null, .ref x2_q]) (rest := []) C mi_J14_init_3 si_J24_10 (ct_J14_init_3_J24 Ev h n o none (some x2_q) r_12 _ _ _ e_16) rfl rfl (Nat.le_of_ble_eq_true rfl) ⟨Nat.le_of_ble_eq_true rfl, Nat.le_of_ble_eq_true rfl, Bd.c1 hb ea_17, Bd.s1 hb eb_18⟩ dJ24_init_3 rb_xX (rb_kX (rb_w (kc := (0 + k_14)) (ks := (0 + s_15)) rfl rfl ?_))
      have hb := Bd.ade hb ea_17 eb_18
      cases hf
      exact rb_vret C rfl hb.e.2.1 hb.e.2.2 dJ24_init_6 ⟨rfl, rfl, hb.e.1⟩
  | some x1_q =>
    dsimp only at hf
    cases x2 with
    | none =>
      dsimp only at hf
      refine Ct.of rfl (Nat.le_of_ble_eq_true rfl) fun X C hnm => ?_
      have C : Cx Ev X RJ24 cJ24_init 3 none [] := C
      show Wa Ev X (rm_J24_init k s) 3 h n 0 0 (rb_MQ Ev X (rm_J24_init k s) (pX (.inl (none)) h' (n + k))) 0 [(0, .ref o), (1, .ref x1_q), (2, .null)] []
      have hb : Bd (n + k) k s n 0 0 k s := ⟨rfl, Nat.le_of_eq (Nat.zero_add _), Nat.le_of_eq (Nat.zero_add _)⟩
      refine rb_aload_n C dJ24_init_0 rfl 0 rfl ?_
      refine rb_aload_n C dJ24_init_1 rfl 1 rfl ?_
      refine rb_aload_nN C dJ24_init_2 rfl 2 rfl ?_
      obtain ⟨⟨r_22, h_23, k_24, s_25⟩, e_26, hf⟩ := rb_bd hf
      obtain ⟨a_29, b_30, hf, ea_27, eb_28⟩ := ad_at hf
      refine rb_callI (As := [.ref x1_q, .null]) (rest := []) C mi_J14_init_3 si_J24_10 (ct_J14_init_3_J24 Ev h n o (some x1_q) none r_22 _ _ _ e_26) rfl rfl (Nat.le_of_ble_eq_true rfl) ⟨Nat.le_of_ble_eq_true rfl, Nat.le_of_ble_eq_true rfl, Bd.c1 hb ea_27, Bd.s1 hb eb_28⟩ dJ24_init_3 rb_xX (rb_kX (rb_w (kc := (0 + k_24)) (ks := (0 + s_25)) rfl rfl ?_))
      have hb := Bd.ade hb ea_27 eb_28
      cases hf
      exact rb_vret C rfl hb.e.2.1 hb.e.2.2 dJ24_init_6 ⟨rfl, rfl, hb.e.1⟩
    | some x2_q =>
      dsimp only at hf
      refine Ct.of rfl (Nat.le_of_ble_eq_true rfl) fun X C hnm => ?_
      have C : Cx Ev X RJ24 cJ24_init 3 none [] := C
      show Wa Ev X (rm_J24_init k s) 3 h n 0 0 (rb_MQ Ev X (rm_J24_init k s) (pX (.inl (none)) h' (n + k))) 0 [(0, .ref o), (1, .ref x1_q), (2, .ref x2_q)] []
      have hb : Bd (n + k) k s n 0 0 k s := ⟨rfl, Nat.le_of_eq (Nat.zero_add _), Nat.le_of_eq (Nat.zero_add _)⟩
      refine rb_aload_n C dJ24_init_0 rfl 0 rfl ?_
      refine rb_aload_n C dJ24_init_1 rfl 1 rfl ?_
      refine rb_aload_n C dJ24_init_2 rfl 2 rfl ?_
      obtain ⟨⟨r_32, h_33, k_34, s_35⟩, e_36, hf⟩ := rb_bd hf
      obtain ⟨a_39, b_40, hf, ea_37, eb_38⟩ := ad_at hf
      refine rb_callI (As := [.ref x1_q, .ref x2_q]) (rest := []) C mi_J14_init_3 si_J24_10 (ct_J14_init_3_J24 Ev h n o (some x1_q) (some x2_q) r_32 _ _ _ e_36) rfl rfl (Nat.le_of_ble_eq_true rfl) ⟨Nat.le_of_ble_eq_true rfl, Nat.le_of_ble_eq_true rfl, Bd.c1 hb ea_37, Bd.s1 hb eb_38⟩ dJ24_init_3 rb_xX (rb_kX (rb_w (kc := (0 + k_34)) (ks := (0 + s_35)) rfl rfl ?_))
      have hb := Bd.ade hb ea_37 eb_38
      cases hf
      exact rb_vret C rfl hb.e.2.1 hb.e.2.2 dJ24_init_6 ⟨rfl, rfl, hb.e.1⟩
def f_X1_deny (Ev : rb_E) (h : AH) (n : Nat) (o : Nat) (x1 : Nat) : Option (Nat × AH × Nat × Nat) := ((hp_put h o 0 5 (.ref x1)).bind fun h_1 => (ad 1 6 (rb_lt (va_up h_1 n (some (.inr (25, [.null, .null, .null, .null, .null, .int 0])))) fun h_7 => ((f_J24_init Ev h_7 (n + 1) n none (some x1)).bind fun (r_9, h_10, k_11, s_12) => (ad k_11 s_12 (some (n, h_10, 0, 0)))))))
abbrev rm_X1_deny (k s : Nat) : Room := { frames := 7, cells := k, slots := s, locals := 168 }
set_option maxHeartbeats 4000000 in
theorem ct_X1_deny (Ev : rb_E) (h : AH) (n : Nat) (o : Nat) (x1 : Nat) (r : Nat) (h' : AH) (k s : Nat) (hf : f_X1_deny Ev h n o x1 = some (r, h', k, s)) : Ct Ev yX1_deny (ws_ yX1_deny cX1_deny 2 (some (.object "java/lang/UnsupportedOperationException"))) (rm_X1_deny k s) [.ref o, .ref x1] h n (pX (.inl (some (.ref r))) h' (n + k)) := by
  rw [f_X1_deny] at hf
  refine Ct.of rfl (Nat.le_of_ble_eq_true rfl) fun X C hnm => ?_
  have C : Cx Ev X RX1 cX1_deny 2 (some (.object "java/lang/UnsupportedOperationException")) [] := C
  show Wa Ev X (rm_X1_deny k s) 2 h n 0 0 (rb_MQ Ev X (rm_X1_deny k s) (pX (.inl (some (.ref r))) h' (n + k))) 0 [(0, .ref o), (1, .ref x1)] []
  have hb : Bd (n + k) k s n 0 0 k s := ⟨rfl, Nat.le_of_eq (Nat.zero_add _), Nat.le_of_eq (Nat.zero_add _)⟩
  refine rb_aload_n C dX1_deny_0 rfl 0 rfl ?_
  refine rb_aload_n C dX1_deny_1 rfl 1 rfl ?_
  obtain ⟨h_1, e_2, hf⟩ := rb_bd hf
  refine rb_hput C fw_X1_139_X1 e_2 rfl rfl dX1_deny_2 ?_
  obtain ⟨a_5, b_6, hf, ea_3, eb_4⟩ := ad_at hf
  refine rb_hnew C ck_J24 q1328 q1329 q104 [.null, .null, .null, .null, .null, .int 0] rfl (Bd.c1 hb ea_3) (Bd.s1 hb eb_4) dX1_deny_5 ?_
  have hb := Bd.ade hb ea_3 eb_4
  obtain ⟨h_7, e_h_7⟩ : ∃ z, z = (va_up h_1 n (some (.inr (25, [.null, .null, .null, .null, .null, .int 0])))) := ⟨_, rfl⟩
  rw [← e_h_7]
  have hf := rb_let hf e_h_7
  refine rb_dup C dX1_deny_8 rfl ?_
  refine rb_null C dX1_deny_9 ?_
  refine rb_aload_n C dX1_deny_10 rfl 1 rfl ?_
  obtain ⟨⟨r_9, h_10, k_11, s_12⟩, e_13, hf⟩ := rb_bd hf
  obtain ⟨a_16, b_17, hf, ea_14, eb_15⟩ := ad_at hf
  refine rb_callI (As := [.null, .ref x1]) (rest := [.ref n]) C mi_J24_init si_X1_145 (ct_J24_init Ev h_7 (n + 1) n none (some x1) r_9 _ _ _ e_13) rfl rfl (Nat.le_of_ble_eq_true rfl) ⟨Nat.le_of_ble_eq_true rfl, Nat.le_of_ble_eq_true rfl, Bd.c1 hb ea_14, Bd.s1 hb eb_15⟩ dX1_deny_11 rb_xX (rb_kX (rb_w (kc := ((0 + 1) + k_11)) (ks := ((0 + 6) + s_12)) rfl rfl ?_))
  have hb := Bd.ade hb ea_14 eb_15
  cases hf
  exact rb_aret C rfl (Or.inl ⟨_, rfl⟩) (Or.inr ⟨_, rfl⟩) hb.e.2.1 hb.e.2.2 dX1_deny_14 ⟨rfl, rfl, hb.e.1⟩
def f_X1_commit (Ev : rb_E) (h : AH) (n : Nat) (o : Nat) (x1 : Nat) (x2 : Nat) (x3 : Int32) : Option ((Int32 ⊕ (String × Nat)) × AH × Nat × Nat) := (ad 1 5 (rb_lt (va_up h n (some (.inr (1, [.null, .null, .null, .null, .null])))) fun h_5 => ((hp_p Ev h_5 o 0 0).bind fun v_6 => ((f_X2_init_2 Ev h_5 (n + 1) n v_6).bind fun (r_9, h_10, k_11, s_12) => (ad k_11 s_12 (ad 1 3 (rb_lt (va_up h_10 ((n + 1) + k_11) (some (.inr (3, [.null, .null, .int 0])))) fun h_22 => ((f_X5_init Ev h_22 (((n + 1) + k_11) + 1) ((n + 1) + k_11) x1 x2 x3).bind fun (r_24, h_25, k_26, s_27) => (ad k_26 s_27 ((hp_k Ev h_25 ((n + 1) + k_11) 3).bind fun u_33 => ((f_X5_apply Ev h_25 ((((n + 1) + k_11) + 1) + k_26) ((n + 1) + k_11) n).bind fun (r_36, h_37, k_38, s_39) => (ad k_38 s_39 (match r_36 with | .inl v_45 => ((hp_k Ev h_37 o 0).bind fun u_48 => ((f_X1_replaceBy Ev h_37 (((((n + 1) + k_11) + 1) + k_26) + k_38) o n v_45).bind fun (r_51, h_52, k_53, s_54) => (ad k_53 s_54 (some (.inl r_51, h_52, 0, 0))))) | .inr (E_46, q_47) => (if E_46 = "RainbowOperators$Denial" then ((hp_k Ev h_37 o 0).bind fun u_61 => ((f_X1_deny Ev h_37 (((((n + 1) + k_11) + 1) + k_26) + k_38) o q_47).bind fun (r_64, h_65, k_66, s_67) => (ad k_66 s_67 ((hp_k Ev h_65 r_64 25).bind fun u_74 => (some (.inr ("java/lang/UnsupportedOperationException", r_64), h_65, 0, 0)))))) else (if E_46 = "java/lang/IllegalArgumentException" then (some (.inr ("java/lang/IllegalArgumentException", q_47), h_37, 0, 0)) else (if E_46 = "java/lang/IndexOutOfBoundsException" then (some (.inr ("java/lang/IndexOutOfBoundsException", q_47), h_37, 0, 0)) else none))))))))))))))))
abbrev rm_X1_commit (k s : Nat) : Room := { frames := 76, cells := k, slots := s, locals := 2891 }
set_option maxHeartbeats 4000000 in
theorem ct_X1_commit (Ev : rb_E) (h : AH) (n : Nat) (o : Nat) (x1 : Nat) (x2 : Nat) (x3 : Int32) (r : Int32 ⊕ (String × Nat)) (h' : AH) (k s : Nat) (hf : f_X1_commit Ev h n o x1 x2 x3 = some (r, h', k, s)) : Ct Ev yX1_commit (wsW_ yX1_commit cX1_commit 6 (some .int) ([((13), (34), (35), (34))])) (rm_X1_commit k s) [.ref o, .ref x1, .ref x2, .int x3] h n (pX (rMap (fun v => some (.int v)) r) h' (n + k)) := by
  rw [f_X1_commit] at hf
  refine Ct.ofH (hs := ([((13), (34), (35), (34))])) rfl (Nat.le_of_ble_eq_true rfl) fun X C hnm => ?_
  have C : Cx Ev X RX1 cX1_commit 6 (some .int) (tableOf ([((13), (34), (35), (34))])) := C
  show Wa Ev X (rm_X1_commit k s) 6 h n 0 0 (rb_MQ Ev X (rm_X1_commit k s) (pX (rMap (fun v => some (.int v)) r) h' (n + k))) 0 [(0, .ref o), (1, .ref x1), (2, .ref x2), (3, .int x3)] []
  have hb : Bd (n + k) k s n 0 0 k s := ⟨rfl, Nat.le_of_eq (Nat.zero_add _), Nat.le_of_eq (Nat.zero_add _)⟩
  obtain ⟨a_3, b_4, hf, ea_1, eb_2⟩ := ad_at hf
  refine rb_hnew C ck_X2 q125 q126 q70 [.null, .null, .null, .null, .null] rfl (Bd.c1 hb ea_1) (Bd.s1 hb eb_2) dX1_commit_0 ?_
  have hb := Bd.ade hb ea_1 eb_2
  obtain ⟨h_5, e_h_5⟩ : ∃ z, z = (va_up h n (some (.inr (1, [.null, .null, .null, .null, .null])))) := ⟨_, rfl⟩
  rw [← e_h_5]
  have hf := rb_let hf e_h_5
  refine rb_dup C dX1_commit_3 rfl ?_
  refine rb_aload_n C dX1_commit_4 rfl 0 rfl ?_
  obtain ⟨v_6, e_7, hf⟩ := rb_bd hf
  refine rb_hP C fl_X1_104_X1 e_7 dX1_commit_5 ?_
  obtain ⟨⟨r_9, h_10, k_11, s_12⟩, e_13, hf⟩ := rb_bd hf
  obtain ⟨a_16, b_17, hf, ea_14, eb_15⟩ := ad_at hf
  refine rb_callI (As := [.ref v_6]) (rest := [.ref n]) C mi_X2_init_2 si_X1_148 (ct_X2_init_2 Ev h_5 (n + 1) n v_6 r_9 _ _ _ e_13) rfl rfl (Nat.le_of_ble_eq_true rfl) ⟨Nat.le_of_ble_eq_true rfl, Nat.le_of_ble_eq_true rfl, Bd.c1 hb ea_14, Bd.s1 hb eb_15⟩ dX1_commit_8 rb_xX (rb_kX (rb_w (kc := ((0 + 1) + k_11)) (ks := ((0 + 5) + s_12)) rfl rfl ?_))
  have hb := Bd.ade hb ea_14 eb_15
  refine rb_astore (lv' := [(4, .ref n), (0, .ref o), (1, .ref x1), (2, .ref x2), (3, .int x3)]) C dX1_commit_11 (by decide) rfl ?_
  refine rb_aload_n C dX1_commit_13 rfl 1 rfl ?_
  refine rb_aload C dX1_commit_14 0 rfl ?_
  obtain ⟨a_20, b_21, hf, ea_18, eb_19⟩ := ad_at hf
  refine rb_hnew C ck_X5 q525 q526 q92 [.null, .null, .int 0] rfl (Bd.c1 hb ea_18) (Bd.s1 hb eb_19) dX1_commit_16 ?_
  have hb := Bd.ade hb ea_18 eb_19
  obtain ⟨h_22, e_h_22⟩ : ∃ z, z = (va_up h_10 ((n + 1) + k_11) (some (.inr (3, [.null, .null, .int 0])))) := ⟨_, rfl⟩
  rw [← e_h_22]
  have hf := rb_let hf e_h_22
  refine rb_dup C dX1_commit_19 rfl ?_
  refine rb_aload_n C dX1_commit_20 rfl 2 rfl ?_
  refine rb_aload_n C dX1_commit_21 rfl 3 rfl ?_
  refine rb_iload_n C dX1_commit_22 rfl 4 rfl ?_
  obtain ⟨⟨r_24, h_25, k_26, s_27⟩, e_28, hf⟩ := rb_bd hf
  obtain ⟨a_31, b_32, hf, ea_29, eb_30⟩ := ad_at hf
  refine rb_callI (As := [.ref x1, .ref x2, .int x3]) (rest := [.ref ((n + 1) + k_11), .ref n, .ref o]) C mi_X5_init si_X1_153 (ct_X5_init Ev h_22 (((n + 1) + k_11) + 1) ((n + 1) + k_11) x1 x2 x3 r_24 _ _ _ e_28) rfl rfl (Nat.le_of_ble_eq_true rfl) ⟨Nat.le_of_ble_eq_true rfl, Nat.le_of_ble_eq_true rfl, Bd.c1 hb ea_29, Bd.s1 hb eb_30⟩ dX1_commit_23 rb_xX (rb_kX (rb_w (kc := ((((0 + 1) + k_11) + 1) + k_26)) (ks := ((((0 + 5) + s_12) + 3) + s_27)) rfl rfl ?_))
  have hb := Bd.ade hb ea_29 eb_30
  refine rb_aload C dX1_commit_26 0 rfl ?_
  obtain ⟨u_33, e_34, hf⟩ := rb_bd hf
  obtain ⟨⟨r_36, h_37, k_38, s_39⟩, e_40, hf⟩ := rb_bd hf
  obtain ⟨a_43, b_44, hf, ea_41, eb_42⟩ := ad_at hf
  rcases r_36 with v_45 | ⟨E_46, q_47⟩
  · dsimp only at hf
    refine rb_callV (As := [.ref n]) (rest := [.ref n, .ref o]) C mi_X5_apply sv_X1_156 (hp_k_isC C.pf e_34 ck_X5) (ct_X5_apply Ev h_25 ((((n + 1) + k_11) + 1) + k_26) ((n + 1) + k_11) n (.inl v_45) _ _ _ e_40) rfl rfl (Nat.le_of_ble_eq_true rfl) ⟨Nat.le_of_ble_eq_true rfl, Nat.le_of_ble_eq_true rfl, Bd.c1 hb ea_41, Bd.s1 hb eb_42⟩ dX1_commit_28 rb_xX (rb_kX (r := some (.int v_45)) (rb_w (kc := (((((0 + 1) + k_11) + 1) + k_26) + k_38)) (ks := (((((0 + 5) + s_12) + 3) + s_27) + s_39)) rfl rfl ?_))
    have hb := Bd.ade hb ea_41 eb_42
    obtain ⟨u_48, e_49, hf⟩ := rb_bd hf
    obtain ⟨⟨r_51, h_52, k_53, s_54⟩, e_55, hf⟩ := rb_bd hf
    obtain ⟨a_58, b_59, hf, ea_56, eb_57⟩ := ad_at hf
    refine rb_callV (As := [.ref n, .int v_45]) (rest := []) C mi_X1_replaceBy sv_X1_160 (hp_k_isC C.pf e_49 ck_X1) (ct_X1_replaceBy Ev h_37 (((((n + 1) + k_11) + 1) + k_26) + k_38) o n v_45 r_51 _ _ _ e_55) rfl rfl (Nat.le_of_ble_eq_true rfl) ⟨Nat.le_of_ble_eq_true rfl, Nat.le_of_ble_eq_true rfl, Bd.c1 hb ea_56, Bd.s1 hb eb_57⟩ dX1_commit_31 rb_xXi (rb_kXi fun hn_50 => (rb_w (kc := ((((((0 + 1) + k_11) + 1) + k_26) + k_38) + k_53)) (ks := ((((((0 + 5) + s_12) + 3) + s_27) + s_39) + s_54)) rfl rfl ?_))
    have hb := Bd.ade hb ea_56 eb_57
    cases hf
    exact rb_iret C rfl rfl hb.e.2.1 hb.e.2.2 dX1_commit_34 ⟨rfl, rfl, hb.e.1⟩
  · dsimp only at hf
    by_cases c_60 : E_46 = "RainbowOperators$Denial"
    · have hf := (if_pos c_60).symm.trans hf
      subst c_60
      refine rb_callV (As := [.ref n]) (rest := [.ref n, .ref o]) C mi_X5_apply sv_X1_156 (hp_k_isC C.pf e_34 ck_X5) (ct_X5_apply Ev h_25 ((((n + 1) + k_11) + 1) + k_26) ((n + 1) + k_11) n (.inr ("RainbowOperators$Denial", q_47)) _ _ _ e_40) rfl rfl (Nat.le_of_ble_eq_true rfl) ⟨Nat.le_of_ble_eq_true rfl, Nat.le_of_ble_eq_true rfl, Bd.c1 hb ea_41, Bd.s1 hb eb_42⟩ dX1_commit_28 (rb_xY (E := "RainbowOperators$Denial") (rb_wX (kc := (((((0 + 1) + k_11) + 1) + k_26) + k_38)) (ks := (((((0 + 5) + s_12) + 3) + s_27) + s_39)) rfl rfl ?_)) rb_kY
      have hb := Bd.ade hb ea_41 eb_42
      refine rb_catch C (pre := []) (x := ⟨13, 34, 35, 34⟩) (suf := []) rfl ?_ rfl (by decide) q261 q852 ?_
      · intro z hz
        exact absurd hz List.not_mem_nil
      refine rb_astore (lv' := [(5, .ref q_47), (4, .ref n), (0, .ref o), (1, .ref x1), (2, .ref x2), (3, .int x3)]) C dX1_commit_35 (by decide) rfl ?_
      refine rb_aload_n C dX1_commit_37 rfl 2 rfl ?_
      refine rb_aload C dX1_commit_38 0 rfl ?_
      obtain ⟨u_61, e_62, hf⟩ := rb_bd hf
      obtain ⟨⟨r_64, h_65, k_66, s_67⟩, e_68, hf⟩ := rb_bd hf
      obtain ⟨a_71, b_72, hf, ea_69, eb_70⟩ := ad_at hf
      refine rb_callV (As := [.ref q_47]) (rest := []) C mi_X1_deny sv_X1_164 (hp_k_isC C.pf e_62 ck_X1) (ct_X1_deny Ev h_37 (((((n + 1) + k_11) + 1) + k_26) + k_38) o q_47 r_64 _ _ _ e_68) rfl rfl (Nat.le_of_ble_eq_true rfl) ⟨Nat.le_of_ble_eq_true rfl, Nat.le_of_ble_eq_true rfl, Bd.c1 hb ea_69, Bd.s1 hb eb_70⟩ dX1_commit_40 rb_xX (rb_kX (rb_w (kc := ((((((0 + 1) + k_11) + 1) + k_26) + k_38) + k_66)) (ks := ((((((0 + 5) + s_12) + 3) + s_27) + s_39) + s_67)) rfl rfl ?_))
      have hb := Bd.ade hb ea_69 eb_70
      obtain ⟨u_74, e_73, hf⟩ := rb_bd hf
      refine rb_hthrow (rest := []) C ck_J24 e_73 dX1_commit_43 ?_
      cases hf
      refine rb_outP C ?_ hb.e.2.1 hb.e.2.2 ⟨rfl, rfl, hb.e.1⟩
      intro z hz
      simp only [tableOf, List.map_cons, List.map_nil, List.mem_cons, List.not_mem_nil, or_false] at hz
      · subst hz; exact Or.inl rfl
    have hf := (if_neg c_60).symm.trans hf
    by_cases c_75 : E_46 = "java/lang/IllegalArgumentException"
    · have hf := (if_pos c_75).symm.trans hf
      subst c_75
      refine rb_callV (As := [.ref n]) (rest := [.ref n, .ref o]) C mi_X5_apply sv_X1_156 (hp_k_isC C.pf e_34 ck_X5) (ct_X5_apply Ev h_25 ((((n + 1) + k_11) + 1) + k_26) ((n + 1) + k_11) n (.inr ("java/lang/IllegalArgumentException", q_47)) _ _ _ e_40) rfl rfl (Nat.le_of_ble_eq_true rfl) ⟨Nat.le_of_ble_eq_true rfl, Nat.le_of_ble_eq_true rfl, Bd.c1 hb ea_41, Bd.s1 hb eb_42⟩ dX1_commit_28 (rb_xY (E := "java/lang/IllegalArgumentException") (rb_wX (kc := (((((0 + 1) + k_11) + 1) + k_26) + k_38)) (ks := (((((0 + 5) + s_12) + 3) + s_27) + s_39)) rfl rfl ?_)) rb_kY
      have hb := Bd.ade hb ea_41 eb_42
      cases hf
      refine rb_outP C ?_ hb.e.2.1 hb.e.2.2 ⟨rfl, rfl, hb.e.1⟩
      intro z hz
      simp only [tableOf, List.map_cons, List.map_nil, List.mem_cons, List.not_mem_nil, or_false] at hz
      · subst hz; exact Or.inr ⟨by decide, "RainbowOperators$Denial", q261, (nc_mem "java/lang/IllegalArgumentException" "RainbowOperators$Denial")⟩
    have hf := (if_neg c_75).symm.trans hf
    by_cases c_76 : E_46 = "java/lang/IndexOutOfBoundsException"
    · have hf := (if_pos c_76).symm.trans hf
      subst c_76
      refine rb_callV (As := [.ref n]) (rest := [.ref n, .ref o]) C mi_X5_apply sv_X1_156 (hp_k_isC C.pf e_34 ck_X5) (ct_X5_apply Ev h_25 ((((n + 1) + k_11) + 1) + k_26) ((n + 1) + k_11) n (.inr ("java/lang/IndexOutOfBoundsException", q_47)) _ _ _ e_40) rfl rfl (Nat.le_of_ble_eq_true rfl) ⟨Nat.le_of_ble_eq_true rfl, Nat.le_of_ble_eq_true rfl, Bd.c1 hb ea_41, Bd.s1 hb eb_42⟩ dX1_commit_28 (rb_xY (E := "java/lang/IndexOutOfBoundsException") (rb_wX (kc := (((((0 + 1) + k_11) + 1) + k_26) + k_38)) (ks := (((((0 + 5) + s_12) + 3) + s_27) + s_39)) rfl rfl ?_)) rb_kY
      have hb := Bd.ade hb ea_41 eb_42
      cases hf
      refine rb_outP C ?_ hb.e.2.1 hb.e.2.2 ⟨rfl, rfl, hb.e.1⟩
      intro z hz
      simp only [tableOf, List.map_cons, List.map_nil, List.mem_cons, List.not_mem_nil, or_false] at hz
      · subst hz; exact Or.inr ⟨by decide, "RainbowOperators$Denial", q261, (nc_mem "java/lang/IndexOutOfBoundsException" "RainbowOperators$Denial")⟩
    have hf := (if_neg c_76).symm.trans hf
    cases hf
def f_X1_clear (Ev : rb_E) (h : AH) (n : Nat) (o : Nat) : Option ((Int32 ⊕ (String × Nat)) × AH × Nat × Nat) := ((hp_k Ev h o 0).bind fun u_1 => ((f_X1_commit Ev h n o (eS Ev RX1 180) (eS Ev RX1 93) 0).bind fun (r_4, h_5, k_6, s_7) => (ad k_6 s_7 (match r_4 with | .inl v_13 => (some (.inl v_13, h_5, 0, 0)) | .inr (E_14, q_15) => (if E_14 = "java/lang/IllegalArgumentException" then (some (.inr ("java/lang/IllegalArgumentException", q_15), h_5, 0, 0)) else (if E_14 = "java/lang/IndexOutOfBoundsException" then (some (.inr ("java/lang/IndexOutOfBoundsException", q_15), h_5, 0, 0)) else (if E_14 = "java/lang/UnsupportedOperationException" then (some (.inr ("java/lang/UnsupportedOperationException", q_15), h_5, 0, 0)) else none)))))))
abbrev rm_X1_clear (k s : Nat) : Room := { frames := 77, cells := k, slots := s, locals := 2916 }
set_option maxHeartbeats 4000000 in
theorem ct_X1_clear (Ev : rb_E) (h : AH) (n : Nat) (o : Nat) (r : Int32 ⊕ (String × Nat)) (h' : AH) (k s : Nat) (hf : f_X1_clear Ev h n o = some (r, h', k, s)) : Ct Ev yX1_clear (ws_ yX1_clear cX1_clear 1 (some .int)) (rm_X1_clear k s) [.ref o] h n (pX (rMap (fun v => some (.int v)) r) h' (n + k)) := by
  rw [f_X1_clear] at hf
  refine Ct.of rfl (Nat.le_of_ble_eq_true rfl) fun X C hnm => ?_
  have C : Cx Ev X RX1 cX1_clear 1 (some .int) [] := C
  show Wa Ev X (rm_X1_clear k s) 1 h n 0 0 (rb_MQ Ev X (rm_X1_clear k s) (pX (rMap (fun v => some (.int v)) r) h' (n + k))) 0 [(0, .ref o)] []
  have hb : Bd (n + k) k s n 0 0 k s := ⟨rfl, Nat.le_of_eq (Nat.zero_add _), Nat.le_of_eq (Nat.zero_add _)⟩
  refine rb_aload_n C dX1_clear_0 rfl 0 rfl ?_
  refine rb_ldcS C q256 dX1_clear_1 ?_
  refine rb_ldcS C q227 dX1_clear_3 ?_
  refine rb_iconst (v := 0) C dX1_clear_5 rfl ?_
  obtain ⟨u_1, e_2, hf⟩ := rb_bd hf
  obtain ⟨⟨r_4, h_5, k_6, s_7⟩, e_8, hf⟩ := rb_bd hf
  obtain ⟨a_11, b_12, hf, ea_9, eb_10⟩ := ad_at hf
  rcases r_4 with v_13 | ⟨E_14, q_15⟩
  · dsimp only at hf
    refine rb_callVX (As := [.ref (eS Ev RX1 180), .ref (eS Ev RX1 93), .int 0]) (rest := []) C mi_X1_commit sv_X1_174 (hp_k_isC C.pf e_2 ck_X1) (ct_X1_commit Ev h n o (eS Ev RX1 180) (eS Ev RX1 93) 0 (.inl v_13) _ _ _ e_8) rfl rfl (Nat.le_of_ble_eq_true rfl) ⟨Nat.le_of_ble_eq_true rfl, Nat.le_of_ble_eq_true rfl, Bd.c1 hb ea_9, Bd.s1 hb eb_10⟩ dX1_clear_6 rb_xX (rb_kX (r := some (.int v_13)) (rb_w (kc := (0 + k_6)) (ks := (0 + s_7)) rfl rfl ?_))
    have hb := Bd.ade hb ea_9 eb_10
    cases hf
    exact rb_iret C rfl rfl hb.e.2.1 hb.e.2.2 dX1_clear_9 ⟨rfl, rfl, hb.e.1⟩
  · dsimp only at hf
    by_cases c_16 : E_14 = "java/lang/IllegalArgumentException"
    · have hf := (if_pos c_16).symm.trans hf
      subst c_16
      refine rb_callVX (As := [.ref (eS Ev RX1 180), .ref (eS Ev RX1 93), .int 0]) (rest := []) C mi_X1_commit sv_X1_174 (hp_k_isC C.pf e_2 ck_X1) (ct_X1_commit Ev h n o (eS Ev RX1 180) (eS Ev RX1 93) 0 (.inr ("java/lang/IllegalArgumentException", q_15)) _ _ _ e_8) rfl rfl (Nat.le_of_ble_eq_true rfl) ⟨Nat.le_of_ble_eq_true rfl, Nat.le_of_ble_eq_true rfl, Bd.c1 hb ea_9, Bd.s1 hb eb_10⟩ dX1_clear_6 (rb_xY (E := "java/lang/IllegalArgumentException") (rb_wX (kc := (0 + k_6)) (ks := (0 + s_7)) rfl rfl ?_)) rb_kY
      have hb := Bd.ade hb ea_9 eb_10
      cases hf
      exact rb_out C (fun _ z => absurd z List.not_mem_nil) hb.e.2.1 hb.e.2.2 ⟨rfl, rfl, hb.e.1⟩
    have hf := (if_neg c_16).symm.trans hf
    by_cases c_17 : E_14 = "java/lang/IndexOutOfBoundsException"
    · have hf := (if_pos c_17).symm.trans hf
      subst c_17
      refine rb_callVX (As := [.ref (eS Ev RX1 180), .ref (eS Ev RX1 93), .int 0]) (rest := []) C mi_X1_commit sv_X1_174 (hp_k_isC C.pf e_2 ck_X1) (ct_X1_commit Ev h n o (eS Ev RX1 180) (eS Ev RX1 93) 0 (.inr ("java/lang/IndexOutOfBoundsException", q_15)) _ _ _ e_8) rfl rfl (Nat.le_of_ble_eq_true rfl) ⟨Nat.le_of_ble_eq_true rfl, Nat.le_of_ble_eq_true rfl, Bd.c1 hb ea_9, Bd.s1 hb eb_10⟩ dX1_clear_6 (rb_xY (E := "java/lang/IndexOutOfBoundsException") (rb_wX (kc := (0 + k_6)) (ks := (0 + s_7)) rfl rfl ?_)) rb_kY
      have hb := Bd.ade hb ea_9 eb_10
      cases hf
      exact rb_out C (fun _ z => absurd z List.not_mem_nil) hb.e.2.1 hb.e.2.2 ⟨rfl, rfl, hb.e.1⟩
    have hf := (if_neg c_17).symm.trans hf
    by_cases c_18 : E_14 = "java/lang/UnsupportedOperationException"
    · have hf := (if_pos c_18).symm.trans hf
      subst c_18
      refine rb_callVX (As := [.ref (eS Ev RX1 180), .ref (eS Ev RX1 93), .int 0]) (rest := []) C mi_X1_commit sv_X1_174 (hp_k_isC C.pf e_2 ck_X1) (ct_X1_commit Ev h n o (eS Ev RX1 180) (eS Ev RX1 93) 0 (.inr ("java/lang/UnsupportedOperationException", q_15)) _ _ _ e_8) rfl rfl (Nat.le_of_ble_eq_true rfl) ⟨Nat.le_of_ble_eq_true rfl, Nat.le_of_ble_eq_true rfl, Bd.c1 hb ea_9, Bd.s1 hb eb_10⟩ dX1_clear_6 (rb_xY (E := "java/lang/UnsupportedOperationException") (rb_wX (kc := (0 + k_6)) (ks := (0 + s_7)) rfl rfl ?_)) rb_kY
      have hb := Bd.ade hb ea_9 eb_10
      cases hf
      exact rb_out C (fun _ z => absurd z List.not_mem_nil) hb.e.2.1 hb.e.2.2 ⟨rfl, rfl, hb.e.1⟩
    have hf := (if_neg c_18).symm.trans hf
    cases hf
def f_X1_length (Ev : rb_E) (h : AH) (o : Nat) : Option Int32 := ((hp_p Ev h o 0 0).bind fun v_1 => ((hp_p Ev h v_1 1 0).bind fun v_3 => ((hp_k Ev h v_3 13).bind fun u_5 => ((f_J1_length Ev h v_3).bind fun v_8 => (some v_8)))))
abbrev rm_X1_length : Room := { frames := 2, cells := 0, slots := 0, locals := 40 }
set_option maxHeartbeats 4000000 in
theorem ct_X1_length (Ev : rb_E) (h : AH) (n : Nat) (o : Nat) (r : Int32) (hf : f_X1_length Ev h o = some r) : Ct Ev yX1_length (ws_ yX1_length cX1_length 1 (some .int)) (rm_X1_length) [.ref o] h n (pXi .int r h n) := by
  rw [f_X1_length] at hf
  refine Ct.of rfl (Nat.le_of_ble_eq_true rfl) fun X C hnm => ?_
  have C : Cx Ev X RX1 cX1_length 1 (some .int) [] := C
  show Wa Ev X (rm_X1_length) 1 h n 0 0 (rb_MQ Ev X (rm_X1_length) (pXi .int r h n)) 0 [(0, .ref o)] []
  refine rb_aload_n C dX1_length_0 rfl 0 rfl ?_
  obtain ⟨v_1, e_2, hf⟩ := rb_bd hf
  refine rb_hP C fl_X1_104_X1 e_2 dX1_length_1 ?_
  obtain ⟨v_3, e_4, hf⟩ := rb_bd hf
  refine rb_hP C fl_X1_182_X2 e_4 dX1_length_4 ?_
  obtain ⟨u_5, e_6, hf⟩ := rb_bd hf
  obtain ⟨v_8, e_9, hf⟩ := rb_bd hf
  refine rb_callV (As := []) (rest := []) C mi_J1_length sv_X1_185 (hp_k_isC C.pf e_6 ck_J1) (ct_J1_length Ev h n v_3 _ e_9) rfl rfl (Nat.le_of_ble_eq_true rfl) ⟨Nat.le_of_ble_eq_true rfl, Nat.le_of_ble_eq_true rfl, (Nat.zero_le _), (Nat.zero_le _)⟩ dX1_length_7 rb_xXi (rb_kXi fun hn_7 => (rb_w (kc := 0) (ks := 0) rfl rfl ?_))
  cases hf
  exact rb_iret C rfl rfl (Nat.zero_le _) (Nat.zero_le _) dX1_length_10 ⟨rfl, rfl, rfl, rfl⟩
def f_X1_operands (Ev : rb_E) (h : AH) (o : Nat) : Option Int32 := ((hp_p Ev h o 0 0).bind fun v_1 => ((hp_k Ev h v_1 1).bind fun u_3 => ((f_X2_operandCount Ev h v_1).bind fun v_6 => (some v_6))))
abbrev rm_X1_operands : Room := { frames := 5, cells := 0, slots := 0, locals := 127 }
set_option maxHeartbeats 4000000 in
theorem ct_X1_operands (Ev : rb_E) (h : AH) (n : Nat) (o : Nat) (r : Int32) (hf : f_X1_operands Ev h o = some r) : Ct Ev yX1_operands (ws_ yX1_operands cX1_operands 1 (some .int)) (rm_X1_operands) [.ref o] h n (pXi .int r h n) := by
  rw [f_X1_operands] at hf
  refine Ct.of rfl (Nat.le_of_ble_eq_true rfl) fun X C hnm => ?_
  have C : Cx Ev X RX1 cX1_operands 1 (some .int) [] := C
  show Wa Ev X (rm_X1_operands) 1 h n 0 0 (rb_MQ Ev X (rm_X1_operands) (pXi .int r h n)) 0 [(0, .ref o)] []
  refine rb_aload_n C dX1_operands_0 rfl 0 rfl ?_
  obtain ⟨v_1, e_2, hf⟩ := rb_bd hf
  refine rb_hP C fl_X1_104_X1 e_2 dX1_operands_1 ?_
  obtain ⟨u_3, e_4, hf⟩ := rb_bd hf
  obtain ⟨v_6, e_7, hf⟩ := rb_bd hf
  refine rb_callV (As := []) (rest := []) C mi_X2_operandCount sv_X1_196 (hp_k_isC C.pf e_4 ck_X2) (ct_X2_operandCount Ev h n v_1 _ e_7) rfl rfl (Nat.le_of_ble_eq_true rfl) ⟨Nat.le_of_ble_eq_true rfl, Nat.le_of_ble_eq_true rfl, (Nat.zero_le _), (Nat.zero_le _)⟩ dX1_operands_4 rb_xXi (rb_kXi fun hn_5 => (rb_w (kc := 0) (ks := 0) rfl rfl ?_))
  cases hf
  exact rb_iret C rfl rfl (Nat.zero_le _) (Nat.zero_le _) dX1_operands_7 ⟨rfl, rfl, rfl, rfl⟩
def f_X1_isExpression (Ev : rb_E) (h : AH) (o : Nat) : Option Int32 := ((hp_p Ev h o 0 0).bind fun v_1 => ((hp_k Ev h v_1 1).bind fun u_3 => ((f_X2_breakPlace Ev h v_1).bind fun v_6 => (if v_6 = (-1) then (some 1) else (some 0)))))
abbrev rm_X1_isExpression : Room := { frames := 9, cells := 0, slots := 0, locals := 206 }
set_option maxHeartbeats 4000000 in
theorem ct_X1_isExpression (Ev : rb_E) (h : AH) (n : Nat) (o : Nat) (r : Int32) (hf : f_X1_isExpression Ev h o = some r) : Ct Ev yX1_isExpression (ws_ yX1_isExpression cX1_isExpression 1 (some .boolean)) (rm_X1_isExpression) [.ref o] h n (pXi .boolean r h n) := by
  rw [f_X1_isExpression] at hf
  refine Ct.of rfl (Nat.le_of_ble_eq_true rfl) fun X C hnm => ?_
  have C : Cx Ev X RX1 cX1_isExpression 1 (some .boolean) [] := C
  show Wa Ev X (rm_X1_isExpression) 1 h n 0 0 (rb_MQ Ev X (rm_X1_isExpression) (pXi .boolean r h n)) 0 [(0, .ref o)] []
  refine rb_aload_n C dX1_isExpression_0 rfl 0 rfl ?_
  obtain ⟨v_1, e_2, hf⟩ := rb_bd hf
  refine rb_hP C fl_X1_104_X1 e_2 dX1_isExpression_1 ?_
  obtain ⟨u_3, e_4, hf⟩ := rb_bd hf
  obtain ⟨v_6, e_7, hf⟩ := rb_bd hf
  refine rb_callV (As := []) (rest := []) C mi_X2_breakPlace sv_X1_199 (hp_k_isC C.pf e_4 ck_X2) (ct_X2_breakPlace Ev h n v_1 _ e_7) rfl rfl (Nat.le_of_ble_eq_true rfl) ⟨Nat.le_of_ble_eq_true rfl, Nat.le_of_ble_eq_true rfl, (Nat.zero_le _), (Nat.zero_le _)⟩ dX1_isExpression_4 rb_xXi (rb_kXi fun hn_5 => (rb_w (kc := 0) (ks := 0) rfl rfl ?_))
  refine rb_iconst (v := (-1)) C dX1_isExpression_7 rfl ?_
  refine rb_icmp_ne (tgt := 15) C dX1_isExpression_8 (by decide) (fun c_8 => ?_) (fun c_8 => ?_)
  · have hf := (if_neg c_8).symm.trans hf
    refine rb_iconst (v := 0) C dX1_isExpression_15 rfl ?_
    cases hf
    exact rb_iret C rfl rfl (Nat.zero_le _) (Nat.zero_le _) dX1_isExpression_16 ⟨rfl, rfl, rfl, rfl⟩
  · have hf := (if_pos c_8).symm.trans hf
    refine rb_iconst (v := 1) C dX1_isExpression_11 rfl ?_
    refine rb_goto (tgt := 16) C dX1_isExpression_12 (by decide) ?_
    cases hf
    exact rb_iret C rfl rfl (Nat.zero_le _) (Nat.zero_le _) dX1_isExpression_16 ⟨rfl, rfl, rfl, rfl⟩
def f_X1_meanSky_l16_7 (Ev : rb_E) (h : AH) (v_3 : Nat) (v_5 : Nat) : Nat → Int32 → Int32 → Option UInt64
  | 0, _, _ => none
  | k_l16_7 + 1, y1_l16_7, y4_l16_7 => (if (nI v_5) ≤ y4_l16_7 then (if ((FP.ddiv (FP.i2d y1_l16_7) (4617315517961601024 : UInt64)) &&& 0x7fffffffffffffff ≤ 0x7ff0000000000000) then (some (FP.ddiv (FP.i2d y1_l16_7) (4617315517961601024 : UInt64))) else none) else ((hp_il Ev h v_3 y4_l16_7).bind fun v_10 => ((f_X1_meanSky_l16_7 Ev h v_3 v_5 k_l16_7) (y1_l16_7 + v_10) (y4_l16_7 + 1))))
def f_X1_meanSky (Ev : rb_E) (h : AH) (o : Nat) : Option UInt64 := ((hp_p Ev h o 0 0).bind fun v_1 => ((hp_p Ev h v_1 1 4).bind fun v_3 => ((hp_len Ev h v_3 0).bind fun v_5 => (f_X1_meanSky_l16_7 Ev h v_3 v_5 4096 0 0))))
abbrev rm_X1_meanSky : Room := { frames := 0, cells := 0, slots := 0, locals := 0 }
set_option maxHeartbeats 4000000 in
theorem ct_X1_meanSky (Ev : rb_E) (h : AH) (n : Nat) (o : Nat) (r : UInt64) (hf : f_X1_meanSky Ev h o = some r) : Ct Ev yX1_meanSky (ws_ yX1_meanSky cX1_meanSky 6 (some .double)) (rm_X1_meanSky) [.ref o] h n (pX (.inl (some (.double r))) h n) := by
  rw [f_X1_meanSky] at hf
  refine Ct.of rfl (Nat.le_of_ble_eq_true rfl) fun X C hnm => ?_
  have C : Cx Ev X RX1 cX1_meanSky 6 (some .double) [] := C
  show Wa Ev X (rm_X1_meanSky) 6 h n 0 0 (rb_MQ Ev X (rm_X1_meanSky) (pX (.inl (some (.double r))) h n)) 0 [(0, .ref o)] []
  refine rb_iconst (v := 0) C dX1_meanSky_0 rfl ?_
  refine rb_istore_n (lv' := [(1, .int 0), (0, .ref o)]) C dX1_meanSky_1 rfl (by decide) rfl ?_
  refine rb_aload_n C dX1_meanSky_2 rfl 1 rfl ?_
  obtain ⟨v_1, e_2, hf⟩ := rb_bd hf
  refine rb_hP C fl_X1_104_X1 e_2 dX1_meanSky_3 ?_
  obtain ⟨v_3, e_4, hf⟩ := rb_bd hf
  refine rb_hP C fl_X1_319_X2 e_4 dX1_meanSky_6 ?_
  refine rb_astore_n (lv' := [(2, .ref v_3), (1, .int 0), (0, .ref o)]) C dX1_meanSky_9 rfl (by decide) rfl ?_
  refine rb_aload_n C dX1_meanSky_10 rfl 0 rfl ?_
  obtain ⟨v_5, e_6, hf⟩ := rb_bd hf
  refine rb_hlen (t := 0) C rfl e_6 dX1_meanSky_11 ?_
  refine rb_istore_n (lv' := [(3, .int (nI v_5)), (2, .ref v_3), (1, .int 0), (0, .ref o)]) C dX1_meanSky_12 rfl (by decide) rfl ?_
  refine rb_iconst (v := 0) C dX1_meanSky_13 rfl ?_
  refine rb_istore (lv' := [(4, .int 0), (3, .int (nI v_5)), (2, .ref v_3), (1, .int 0), (0, .ref o)]) C dX1_meanSky_14 (by decide) rfl ?_
  have L_l16_7 : ∀ (k_l16_7 : Nat) (y1_l16_7 : Int32) (y4_l16_7 : Int32), f_X1_meanSky_l16_7 Ev h v_3 v_5 k_l16_7 y1_l16_7 y4_l16_7 = some r → Wa Ev X (rm_X1_meanSky) 6 h n 0 0 (rb_MQ Ev X (rm_X1_meanSky) (pX (.inl (some (.double r))) h n)) 16 [(0, .ref o), (1, .int y1_l16_7), (2, .ref v_3), (3, .int (nI v_5)), (4, .int y4_l16_7)] [] := by
    intro k_l16_7
    induction k_l16_7 with
    | zero => intro y1_l16_7 y4_l16_7 hf; cases hf
    | succ k_l16_7 ih_l16_7 =>
      intro y1_l16_7 y4_l16_7 hf
      rw [f_X1_meanSky_l16_7] at hf
      refine rb_iload C dX1_meanSky_16 4 rfl ?_
      refine rb_iload_n C dX1_meanSky_18 rfl 3 rfl ?_
      refine rb_icmp_ge (tgt := 39) C dX1_meanSky_19 (by decide) (fun c_8 => ?_) (fun c_8 => ?_)
      · have hf := (if_pos c_8).symm.trans hf
        refine rb_iload_n C dX1_meanSky_39 rfl 1 rfl ?_
        refine rb_i2d C dX1_meanSky_40 ?_
        refine rb_ldc2d C q1370 dX1_meanSky_41 ?_
        by_cases c_g_9 : ((FP.ddiv (FP.i2d y1_l16_7) (4617315517961601024 : UInt64)) &&& 0x7fffffffffffffff ≤ 0x7ff0000000000000)
        rotate_left
        · exact absurd ((if_neg c_g_9).symm.trans hf) (fun z => by cases z)
        have hf := (if_pos c_g_9).symm.trans hf
        refine rb_ddiv C dX1_meanSky_44 c_g_9 ?_
        cases hf
        exact rb_dret C rfl (Nat.zero_le _) (Nat.zero_le _) dX1_meanSky_45 ⟨rfl, rfl, rfl⟩
      · have hf := (if_neg c_8).symm.trans hf
        refine rb_aload_n C dX1_meanSky_22 rfl 2 rfl ?_
        refine rb_iload C dX1_meanSky_23 4 rfl ?_
        obtain ⟨v_10, e_11, hf⟩ := rb_bd hf
        refine rb_hil C e_11 dX1_meanSky_25 ?_
        refine rb_istore (lv' := [(5, .int v_10), (0, .ref o), (1, .int y1_l16_7), (2, .ref v_3), (3, .int (nI v_5)), (4, .int y4_l16_7)]) C dX1_meanSky_26 (by decide) rfl ?_
        refine rb_iload_n C dX1_meanSky_28 rfl 2 rfl ?_
        refine rb_iload C dX1_meanSky_29 0 rfl ?_
        refine rb_iadd C dX1_meanSky_31 ?_
        refine rb_istore_n (lv' := [(1, .int (y1_l16_7 + v_10)), (5, .int v_10), (0, .ref o), (2, .ref v_3), (3, .int (nI v_5)), (4, .int y4_l16_7)]) C dX1_meanSky_32 rfl (by decide) rfl ?_
        refine rb_iinc (v := (y4_l16_7 + 1)) (lv' := [(4, .int (y4_l16_7 + 1)), (1, .int (y1_l16_7 + v_10)), (5, .int v_10), (0, .ref o), (2, .ref v_3), (3, .int (nI v_5))]) C dX1_meanSky_33 (k := 5) rfl rfl (by decide) rfl ?_
        refine rb_goto (tgt := 16) C dX1_meanSky_36 (by decide) ?_
        refine rb_sub [3, 1, 4, 5, 0] rfl ?_
        exact ih_l16_7 (y1_l16_7 + v_10) (y4_l16_7 + 1) hf
  refine rb_sub [4, 3, 2, 1, 0] rfl ?_
  exact L_l16_7 4096 0 0 hf
def f_X1_undoCount (Ev : rb_E) (h : AH) (o : Nat) : Option Int32 := ((hp_p Ev h o 0 1).bind fun v_1 => ((hp_k Ev h v_1 15).bind fun u_3 => ((f_J6_size Ev h v_1).bind fun v_6 => (some v_6))))
abbrev rm_X1_undoCount : Room := { frames := 2, cells := 0, slots := 0, locals := 42 }
set_option maxHeartbeats 4000000 in
theorem ct_X1_undoCount (Ev : rb_E) (h : AH) (n : Nat) (o : Nat) (r : Int32) (hf : f_X1_undoCount Ev h o = some r) : Ct Ev yX1_undoCount (ws_ yX1_undoCount cX1_undoCount 1 (some .int)) (rm_X1_undoCount) [.ref o] h n (pXi .int r h n) := by
  rw [f_X1_undoCount] at hf
  refine Ct.of rfl (Nat.le_of_ble_eq_true rfl) fun X C hnm => ?_
  have C : Cx Ev X RX1 cX1_undoCount 1 (some .int) [] := C
  show Wa Ev X (rm_X1_undoCount) 1 h n 0 0 (rb_MQ Ev X (rm_X1_undoCount) (pXi .int r h n)) 0 [(0, .ref o)] []
  refine rb_aload_n C dX1_undoCount_0 rfl 0 rfl ?_
  obtain ⟨v_1, e_2, hf⟩ := rb_bd hf
  refine rb_hP C fl_X1_111_X1 e_2 dX1_undoCount_1 ?_
  obtain ⟨u_3, e_4, hf⟩ := rb_bd hf
  obtain ⟨v_6, e_7, hf⟩ := rb_bd hf
  refine rb_callV (As := []) (rest := []) C mi_J6_size sv_X1_127 (hp_k_isC C.pf e_4 ck_J6) (ct_J6_size Ev h n v_1 _ e_7) rfl rfl (Nat.le_of_ble_eq_true rfl) ⟨Nat.le_of_ble_eq_true rfl, Nat.le_of_ble_eq_true rfl, (Nat.zero_le _), (Nat.zero_le _)⟩ dX1_undoCount_4 rb_xXi (rb_kXi fun hn_5 => (rb_w (kc := 0) (ks := 0) rfl rfl ?_))
  cases hf
  exact rb_iret C rfl rfl (Nat.zero_le _) (Nat.zero_le _) dX1_undoCount_7 ⟨rfl, rfl, rfl, rfl⟩
def f_X1_saveSnapshot (Ev : rb_E) (h : AH) (n : Nat) (o : Nat) : Option (Int32 × AH × Nat × Nat) := (ad 1 5 (rb_lt (va_up h n (some (.inr (1, [.null, .null, .null, .null, .null])))) fun h_5 => ((hp_p Ev h_5 o 0 0).bind fun v_6 => ((f_X2_init_2 Ev h_5 (n + 1) n v_6).bind fun (r_9, h_10, k_11, s_12) => (ad k_11 s_12 ((hp_put h_10 o 0 6 (.ref n)).bind fun h_18 => ((hp_o Ev h_18 o 0 6).bind fun v_20 => (match v_20 with | none => none | some v_20_q => ((hp_p Ev h_18 v_20_q 1 0).bind fun v_22 => ((hp_k Ev h_18 v_22 13).bind fun u_24 => ((f_J1_length Ev h_18 v_22).bind fun v_27 => (some (v_27, h_18, 0, 0)))))))))))))
abbrev rm_X1_saveSnapshot (k s : Nat) : Room := { frames := 14, cells := k, slots := s, locals := 307 }
set_option maxHeartbeats 4000000 in
theorem ct_X1_saveSnapshot (Ev : rb_E) (h : AH) (n : Nat) (o : Nat) (r : Int32) (h' : AH) (k s : Nat) (hf : f_X1_saveSnapshot Ev h n o = some (r, h', k, s)) : Ct Ev yX1_saveSnapshot (ws_ yX1_saveSnapshot cX1_saveSnapshot 1 (some .int)) (rm_X1_saveSnapshot k s) [.ref o] h n (pXi .int r h' (n + k)) := by
  rw [f_X1_saveSnapshot] at hf
  refine Ct.of rfl (Nat.le_of_ble_eq_true rfl) fun X C hnm => ?_
  have C : Cx Ev X RX1 cX1_saveSnapshot 1 (some .int) [] := C
  show Wa Ev X (rm_X1_saveSnapshot k s) 1 h n 0 0 (rb_MQ Ev X (rm_X1_saveSnapshot k s) (pXi .int r h' (n + k))) 0 [(0, .ref o)] []
  have hb : Bd (n + k) k s n 0 0 k s := ⟨rfl, Nat.le_of_eq (Nat.zero_add _), Nat.le_of_eq (Nat.zero_add _)⟩
  refine rb_aload_n C dX1_saveSnapshot_0 rfl 0 rfl ?_
  obtain ⟨a_3, b_4, hf, ea_1, eb_2⟩ := ad_at hf
  refine rb_hnew C ck_X2 q125 q126 q70 [.null, .null, .null, .null, .null] rfl (Bd.c1 hb ea_1) (Bd.s1 hb eb_2) dX1_saveSnapshot_1 ?_
  have hb := Bd.ade hb ea_1 eb_2
  obtain ⟨h_5, e_h_5⟩ : ∃ z, z = (va_up h n (some (.inr (1, [.null, .null, .null, .null, .null])))) := ⟨_, rfl⟩
  rw [← e_h_5]
  have hf := rb_let hf e_h_5
  refine rb_dup C dX1_saveSnapshot_4 rfl ?_
  refine rb_aload_n C dX1_saveSnapshot_5 rfl 0 rfl ?_
  obtain ⟨v_6, e_7, hf⟩ := rb_bd hf
  refine rb_hP C fl_X1_104_X1 e_7 dX1_saveSnapshot_6 ?_
  obtain ⟨⟨r_9, h_10, k_11, s_12⟩, e_13, hf⟩ := rb_bd hf
  obtain ⟨a_16, b_17, hf, ea_14, eb_15⟩ := ad_at hf
  refine rb_callI (As := [.ref v_6]) (rest := [.ref n, .ref o]) C mi_X2_init_2 si_X1_148 (ct_X2_init_2 Ev h_5 (n + 1) n v_6 r_9 _ _ _ e_13) rfl rfl (Nat.le_of_ble_eq_true rfl) ⟨Nat.le_of_ble_eq_true rfl, Nat.le_of_ble_eq_true rfl, Bd.c1 hb ea_14, Bd.s1 hb eb_15⟩ dX1_saveSnapshot_9 rb_xX (rb_kX (rb_w (kc := ((0 + 1) + k_11)) (ks := ((0 + 5) + s_12)) rfl rfl ?_))
  have hb := Bd.ade hb ea_14 eb_15
  obtain ⟨h_18, e_19, hf⟩ := rb_bd hf
  refine rb_hput C fw_X1_409_X1 e_19 rfl rfl dX1_saveSnapshot_12 ?_
  refine rb_aload_n C dX1_saveSnapshot_15 rfl 0 rfl ?_
  obtain ⟨v_20, e_21, hf⟩ := rb_bd hf
  refine rb_hO C fl_X1_409_X1 e_21 dX1_saveSnapshot_16 ?_
  cases v_20 with
  | none =>
    dsimp only at hf
    cases hf
  | some v_20_q =>
    dsimp only at hf
    obtain ⟨v_22, e_23, hf⟩ := rb_bd hf
    refine rb_hP C fl_X1_182_X2 e_23 dX1_saveSnapshot_19 ?_
    obtain ⟨u_24, e_25, hf⟩ := rb_bd hf
    obtain ⟨v_27, e_28, hf⟩ := rb_bd hf
    refine rb_callV (As := []) (rest := []) C mi_J1_length sv_X1_185 (hp_k_isC C.pf e_25 ck_J1) (ct_J1_length Ev h_18 ((n + 1) + k_11) v_22 _ e_28) rfl rfl (Nat.le_of_ble_eq_true rfl) ⟨Nat.le_of_ble_eq_true rfl, Nat.le_of_ble_eq_true rfl, hb.c0, hb.s0⟩ dX1_saveSnapshot_22 rb_xXi (rb_kXi fun hn_26 => (rb_w (kc := ((0 + 1) + k_11)) (ks := ((0 + 5) + s_12)) rfl rfl ?_))
    cases hf
    exact rb_iret C rfl rfl hb.e.2.1 hb.e.2.2 dX1_saveSnapshot_25 ⟨rfl, rfl, hb.e.1, rfl⟩
def f_X1_put (Ev : rb_E) (h : AH) (n : Nat) (o : Nat) (x1 : Int32) : Option ((Int32 ⊕ (String × Nat)) × AH × Nat × Nat) := (ad 1 4 (rb_lt (va_up h n (some (.inr (13, [.null, .int 0, .int 0, .int 0])))) fun h_5 => ((f_J1_init Ev h_5 (n + 1) n).bind fun (r_7, h_8, k_9, s_10) => (ad k_9 s_10 ((hp_k Ev h_8 n 13).bind fun u_16 => ((f_J1_append_3 Ev h_8 ((n + 1) + k_9) n (eS Ev RX1 93)).bind fun (r_19, h_20, k_21, s_22) => (ad k_21 s_22 ((hp_k Ev h_20 r_19 13).bind fun u_28 => ((f_J1_append_7 Ev h_20 (((n + 1) + k_9) + k_21) r_19 x1).bind fun (r_31, h_32, k_33, s_34) => (ad k_33 s_34 ((hp_k Ev h_32 r_31 13).bind fun u_40 => ((f_J1_toString Ev h_32 ((((n + 1) + k_9) + k_21) + k_33) r_31).bind fun (r_43, h_44, k_45, s_46) => (ad k_45 s_46 ((hp_k Ev h_44 o 0).bind fun u_52 => ((f_X1_commit Ev h_44 (((((n + 1) + k_9) + k_21) + k_33) + k_45) o (eS Ev RX1 172) r_43 0).bind fun (r_55, h_56, k_57, s_58) => (ad k_57 s_58 (match r_55 with | .inl v_64 => (some (.inl v_64, h_56, 0, 0)) | .inr (E_65, q_66) => (if E_65 = "java/lang/IllegalArgumentException" then (some (.inr ("java/lang/IllegalArgumentException", q_66), h_56, 0, 0)) else (if E_65 = "java/lang/IndexOutOfBoundsException" then (some (.inr ("java/lang/IndexOutOfBoundsException", q_66), h_56, 0, 0)) else (if E_65 = "java/lang/UnsupportedOperationException" then (some (.inr ("java/lang/UnsupportedOperationException", q_66), h_56, 0, 0)) else none))))))))))))))))))))
abbrev rm_X1_put (k s : Nat) : Room := { frames := 77, cells := k, slots := s, locals := 2916 }
set_option maxHeartbeats 4000000 in
theorem ct_X1_put (Ev : rb_E) (h : AH) (n : Nat) (o : Nat) (x1 : Int32) (r : Int32 ⊕ (String × Nat)) (h' : AH) (k s : Nat) (hf : f_X1_put Ev h n o x1 = some (r, h', k, s)) : Ct Ev yX1_put (ws_ yX1_put cX1_put 2 (some .int)) (rm_X1_put k s) [.ref o, .int x1] h n (pX (rMap (fun v => some (.int v)) r) h' (n + k)) := by
  rw [f_X1_put] at hf
  refine Ct.of rfl (Nat.le_of_ble_eq_true rfl) fun X C hnm => ?_
  have C : Cx Ev X RX1 cX1_put 2 (some .int) [] := C
  show Wa Ev X (rm_X1_put k s) 2 h n 0 0 (rb_MQ Ev X (rm_X1_put k s) (pX (rMap (fun v => some (.int v)) r) h' (n + k))) 0 [(0, .ref o), (1, .int x1)] []
  have hb : Bd (n + k) k s n 0 0 k s := ⟨rfl, Nat.le_of_eq (Nat.zero_add _), Nat.le_of_eq (Nat.zero_add _)⟩
  refine rb_aload_n C dX1_put_0 rfl 0 rfl ?_
  refine rb_ldcS C q1388 dX1_put_1 ?_
  obtain ⟨a_3, b_4, hf, ea_1, eb_2⟩ := ad_at hf
  refine rb_hnew C ck_J1 q225 q132 q72 [.null, .int 0, .int 0, .int 0] rfl (Bd.c1 hb ea_1) (Bd.s1 hb eb_2) dX1_put_3 ?_
  have hb := Bd.ade hb ea_1 eb_2
  obtain ⟨h_5, e_h_5⟩ : ∃ z, z = (va_up h n (some (.inr (13, [.null, .int 0, .int 0, .int 0])))) := ⟨_, rfl⟩
  rw [← e_h_5]
  have hf := rb_let hf e_h_5
  refine rb_dup C dX1_put_6 rfl ?_
  obtain ⟨⟨r_7, h_8, k_9, s_10⟩, e_11, hf⟩ := rb_bd hf
  obtain ⟨a_14, b_15, hf, ea_12, eb_13⟩ := ad_at hf
  refine rb_callI (As := []) (rest := [.ref n, .ref (eS Ev RX1 172), .ref o]) C mi_J1_init si_X1_65 (ct_J1_init Ev h_5 (n + 1) n r_7 _ _ _ e_11) rfl rfl (Nat.le_of_ble_eq_true rfl) ⟨Nat.le_of_ble_eq_true rfl, Nat.le_of_ble_eq_true rfl, Bd.c1 hb ea_12, Bd.s1 hb eb_13⟩ dX1_put_7 rb_xX (rb_kX (rb_w (kc := ((0 + 1) + k_9)) (ks := ((0 + 4) + s_10)) rfl rfl ?_))
  have hb := Bd.ade hb ea_12 eb_13
  refine rb_ldcS C q227 dX1_put_10 ?_
  obtain ⟨u_16, e_17, hf⟩ := rb_bd hf
  obtain ⟨⟨r_19, h_20, k_21, s_22⟩, e_23, hf⟩ := rb_bd hf
  obtain ⟨a_26, b_27, hf, ea_24, eb_25⟩ := ad_at hf
  refine rb_callV (As := [.ref (eS Ev RX1 93)]) (rest := [.ref (eS Ev RX1 172), .ref o]) C mi_J1_append_3 sv_X1_68 (hp_k_isC C.pf e_17 ck_J1) (ct_J1_append_3 Ev h_8 ((n + 1) + k_9) n (eS Ev RX1 93) r_19 _ _ _ e_23) rfl rfl (Nat.le_of_ble_eq_true rfl) ⟨Nat.le_of_ble_eq_true rfl, Nat.le_of_ble_eq_true rfl, Bd.c1 hb ea_24, Bd.s1 hb eb_25⟩ dX1_put_12 rb_xX (rb_kX (rb_w (kc := (((0 + 1) + k_9) + k_21)) (ks := (((0 + 4) + s_10) + s_22)) rfl rfl ?_))
  have hb := Bd.ade hb ea_24 eb_25
  refine rb_iload_n C dX1_put_15 rfl 1 rfl ?_
  obtain ⟨u_28, e_29, hf⟩ := rb_bd hf
  obtain ⟨⟨r_31, h_32, k_33, s_34⟩, e_35, hf⟩ := rb_bd hf
  obtain ⟨a_38, b_39, hf, ea_36, eb_37⟩ := ad_at hf
  refine rb_callV (As := [.int x1]) (rest := [.ref (eS Ev RX1 172), .ref o]) C mi_J1_append_7 sv_X1_88 (hp_k_isC C.pf e_29 ck_J1) (ct_J1_append_7 Ev h_20 (((n + 1) + k_9) + k_21) r_19 x1 r_31 _ _ _ e_35) rfl rfl (Nat.le_of_ble_eq_true rfl) ⟨Nat.le_of_ble_eq_true rfl, Nat.le_of_ble_eq_true rfl, Bd.c1 hb ea_36, Bd.s1 hb eb_37⟩ dX1_put_16 rb_xX (rb_kX (rb_w (kc := ((((0 + 1) + k_9) + k_21) + k_33)) (ks := ((((0 + 4) + s_10) + s_22) + s_34)) rfl rfl ?_))
  have hb := Bd.ade hb ea_36 eb_37
  obtain ⟨u_40, e_41, hf⟩ := rb_bd hf
  obtain ⟨⟨r_43, h_44, k_45, s_46⟩, e_47, hf⟩ := rb_bd hf
  obtain ⟨a_50, b_51, hf, ea_48, eb_49⟩ := ad_at hf
  refine rb_callV (As := []) (rest := [.ref (eS Ev RX1 172), .ref o]) C mi_J1_toString sv_X1_78 (hp_k_isC C.pf e_41 ck_J1) (ct_J1_toString Ev h_32 ((((n + 1) + k_9) + k_21) + k_33) r_31 r_43 _ _ _ e_47) rfl rfl (Nat.le_of_ble_eq_true rfl) ⟨Nat.le_of_ble_eq_true rfl, Nat.le_of_ble_eq_true rfl, Bd.c1 hb ea_48, Bd.s1 hb eb_49⟩ dX1_put_19 rb_xX (rb_kX (rb_w (kc := (((((0 + 1) + k_9) + k_21) + k_33) + k_45)) (ks := (((((0 + 4) + s_10) + s_22) + s_34) + s_46)) rfl rfl ?_))
  have hb := Bd.ade hb ea_48 eb_49
  refine rb_iconst (v := 0) C dX1_put_22 rfl ?_
  obtain ⟨u_52, e_53, hf⟩ := rb_bd hf
  obtain ⟨⟨r_55, h_56, k_57, s_58⟩, e_59, hf⟩ := rb_bd hf
  obtain ⟨a_62, b_63, hf, ea_60, eb_61⟩ := ad_at hf
  rcases r_55 with v_64 | ⟨E_65, q_66⟩
  · dsimp only at hf
    refine rb_callVX (As := [.ref (eS Ev RX1 172), .ref r_43, .int 0]) (rest := []) C mi_X1_commit sv_X1_174 (hp_k_isC C.pf e_53 ck_X1) (ct_X1_commit Ev h_44 (((((n + 1) + k_9) + k_21) + k_33) + k_45) o (eS Ev RX1 172) r_43 0 (.inl v_64) _ _ _ e_59) rfl rfl (Nat.le_of_ble_eq_true rfl) ⟨Nat.le_of_ble_eq_true rfl, Nat.le_of_ble_eq_true rfl, Bd.c1 hb ea_60, Bd.s1 hb eb_61⟩ dX1_put_23 rb_xX (rb_kX (r := some (.int v_64)) (rb_w (kc := ((((((0 + 1) + k_9) + k_21) + k_33) + k_45) + k_57)) (ks := ((((((0 + 4) + s_10) + s_22) + s_34) + s_46) + s_58)) rfl rfl ?_))
    have hb := Bd.ade hb ea_60 eb_61
    cases hf
    exact rb_iret C rfl rfl hb.e.2.1 hb.e.2.2 dX1_put_26 ⟨rfl, rfl, hb.e.1⟩
  · dsimp only at hf
    by_cases c_67 : E_65 = "java/lang/IllegalArgumentException"
    · have hf := (if_pos c_67).symm.trans hf
      subst c_67
      refine rb_callVX (As := [.ref (eS Ev RX1 172), .ref r_43, .int 0]) (rest := []) C mi_X1_commit sv_X1_174 (hp_k_isC C.pf e_53 ck_X1) (ct_X1_commit Ev h_44 (((((n + 1) + k_9) + k_21) + k_33) + k_45) o (eS Ev RX1 172) r_43 0 (.inr ("java/lang/IllegalArgumentException", q_66)) _ _ _ e_59) rfl rfl (Nat.le_of_ble_eq_true rfl) ⟨Nat.le_of_ble_eq_true rfl, Nat.le_of_ble_eq_true rfl, Bd.c1 hb ea_60, Bd.s1 hb eb_61⟩ dX1_put_23 (rb_xY (E := "java/lang/IllegalArgumentException") (rb_wX (kc := ((((((0 + 1) + k_9) + k_21) + k_33) + k_45) + k_57)) (ks := ((((((0 + 4) + s_10) + s_22) + s_34) + s_46) + s_58)) rfl rfl ?_)) rb_kY
      have hb := Bd.ade hb ea_60 eb_61
      cases hf
      exact rb_out C (fun _ z => absurd z List.not_mem_nil) hb.e.2.1 hb.e.2.2 ⟨rfl, rfl, hb.e.1⟩
    have hf := (if_neg c_67).symm.trans hf
    by_cases c_68 : E_65 = "java/lang/IndexOutOfBoundsException"
    · have hf := (if_pos c_68).symm.trans hf
      subst c_68
      refine rb_callVX (As := [.ref (eS Ev RX1 172), .ref r_43, .int 0]) (rest := []) C mi_X1_commit sv_X1_174 (hp_k_isC C.pf e_53 ck_X1) (ct_X1_commit Ev h_44 (((((n + 1) + k_9) + k_21) + k_33) + k_45) o (eS Ev RX1 172) r_43 0 (.inr ("java/lang/IndexOutOfBoundsException", q_66)) _ _ _ e_59) rfl rfl (Nat.le_of_ble_eq_true rfl) ⟨Nat.le_of_ble_eq_true rfl, Nat.le_of_ble_eq_true rfl, Bd.c1 hb ea_60, Bd.s1 hb eb_61⟩ dX1_put_23 (rb_xY (E := "java/lang/IndexOutOfBoundsException") (rb_wX (kc := ((((((0 + 1) + k_9) + k_21) + k_33) + k_45) + k_57)) (ks := ((((((0 + 4) + s_10) + s_22) + s_34) + s_46) + s_58)) rfl rfl ?_)) rb_kY
      have hb := Bd.ade hb ea_60 eb_61
      cases hf
      exact rb_out C (fun _ z => absurd z List.not_mem_nil) hb.e.2.1 hb.e.2.2 ⟨rfl, rfl, hb.e.1⟩
    have hf := (if_neg c_68).symm.trans hf
    by_cases c_69 : E_65 = "java/lang/UnsupportedOperationException"
    · have hf := (if_pos c_69).symm.trans hf
      subst c_69
      refine rb_callVX (As := [.ref (eS Ev RX1 172), .ref r_43, .int 0]) (rest := []) C mi_X1_commit sv_X1_174 (hp_k_isC C.pf e_53 ck_X1) (ct_X1_commit Ev h_44 (((((n + 1) + k_9) + k_21) + k_33) + k_45) o (eS Ev RX1 172) r_43 0 (.inr ("java/lang/UnsupportedOperationException", q_66)) _ _ _ e_59) rfl rfl (Nat.le_of_ble_eq_true rfl) ⟨Nat.le_of_ble_eq_true rfl, Nat.le_of_ble_eq_true rfl, Bd.c1 hb ea_60, Bd.s1 hb eb_61⟩ dX1_put_23 (rb_xY (E := "java/lang/UnsupportedOperationException") (rb_wX (kc := ((((((0 + 1) + k_9) + k_21) + k_33) + k_45) + k_57)) (ks := ((((((0 + 4) + s_10) + s_22) + s_34) + s_46) + s_58)) rfl rfl ?_)) rb_kY
      have hb := Bd.ade hb ea_60 eb_61
      cases hf
      exact rb_out C (fun _ z => absurd z List.not_mem_nil) hb.e.2.1 hb.e.2.2 ⟨rfl, rfl, hb.e.1⟩
    have hf := (if_neg c_69).symm.trans hf
    cases hf
def f_X1_erase (Ev : rb_E) (h : AH) (n : Nat) (o : Nat) : Option ((Int32 ⊕ (String × Nat)) × AH × Nat × Nat) := ((hp_k Ev h o 0).bind fun u_1 => ((f_X1_commit Ev h n o (eS Ev RX1 178) (eS Ev RX1 93) 0).bind fun (r_4, h_5, k_6, s_7) => (ad k_6 s_7 (match r_4 with | .inl v_13 => (some (.inl ((v_13.toUInt32 % 65536).toInt32), h_5, 0, 0)) | .inr (E_14, q_15) => (if E_14 = "java/lang/IllegalArgumentException" then (some (.inr ("java/lang/IllegalArgumentException", q_15), h_5, 0, 0)) else (if E_14 = "java/lang/IndexOutOfBoundsException" then (some (.inr ("java/lang/IndexOutOfBoundsException", q_15), h_5, 0, 0)) else (if E_14 = "java/lang/UnsupportedOperationException" then (some (.inr ("java/lang/UnsupportedOperationException", q_15), h_5, 0, 0)) else none)))))))
abbrev rm_X1_erase (k s : Nat) : Room := { frames := 77, cells := k, slots := s, locals := 2916 }
set_option maxHeartbeats 4000000 in
theorem ct_X1_erase (Ev : rb_E) (h : AH) (n : Nat) (o : Nat) (r : Int32 ⊕ (String × Nat)) (h' : AH) (k s : Nat) (hf : f_X1_erase Ev h n o = some (r, h', k, s)) : Ct Ev yX1_erase (ws_ yX1_erase cX1_erase 1 (some .char)) (rm_X1_erase k s) [.ref o] h n (pX (rMap (fun v => some (.int v)) r) h' (n + k)) := by
  rw [f_X1_erase] at hf
  refine Ct.of rfl (Nat.le_of_ble_eq_true rfl) fun X C hnm => ?_
  have C : Cx Ev X RX1 cX1_erase 1 (some .char) [] := C
  show Wa Ev X (rm_X1_erase k s) 1 h n 0 0 (rb_MQ Ev X (rm_X1_erase k s) (pX (rMap (fun v => some (.int v)) r) h' (n + k))) 0 [(0, .ref o)] []
  have hb : Bd (n + k) k s n 0 0 k s := ⟨rfl, Nat.le_of_eq (Nat.zero_add _), Nat.le_of_eq (Nat.zero_add _)⟩
  refine rb_aload_n C dX1_erase_0 rfl 0 rfl ?_
  refine rb_ldcS C q1399 dX1_erase_1 ?_
  refine rb_ldcS C q227 dX1_erase_3 ?_
  refine rb_iconst (v := 0) C dX1_erase_5 rfl ?_
  obtain ⟨u_1, e_2, hf⟩ := rb_bd hf
  obtain ⟨⟨r_4, h_5, k_6, s_7⟩, e_8, hf⟩ := rb_bd hf
  obtain ⟨a_11, b_12, hf, ea_9, eb_10⟩ := ad_at hf
  rcases r_4 with v_13 | ⟨E_14, q_15⟩
  · dsimp only at hf
    refine rb_callVX (As := [.ref (eS Ev RX1 178), .ref (eS Ev RX1 93), .int 0]) (rest := []) C mi_X1_commit sv_X1_174 (hp_k_isC C.pf e_2 ck_X1) (ct_X1_commit Ev h n o (eS Ev RX1 178) (eS Ev RX1 93) 0 (.inl v_13) _ _ _ e_8) rfl rfl (Nat.le_of_ble_eq_true rfl) ⟨Nat.le_of_ble_eq_true rfl, Nat.le_of_ble_eq_true rfl, Bd.c1 hb ea_9, Bd.s1 hb eb_10⟩ dX1_erase_6 rb_xX (rb_kX (r := some (.int v_13)) (rb_w (kc := (0 + k_6)) (ks := (0 + s_7)) rfl rfl ?_))
    have hb := Bd.ade hb ea_9 eb_10
    refine rb_i2c (v := (v_13.toUInt32 % 65536).toInt32) C dX1_erase_9 rfl ?_
    have hc_16 : narrow .char (.int (v_13.toUInt32 % 65536).toInt32) = .int (v_13.toUInt32 % 65536).toInt32 := pk_nc v_13
    cases hf
    exact rb_iret C rfl hc_16 hb.e.2.1 hb.e.2.2 dX1_erase_10 ⟨rfl, rfl, hb.e.1⟩
  · dsimp only at hf
    by_cases c_17 : E_14 = "java/lang/IllegalArgumentException"
    · have hf := (if_pos c_17).symm.trans hf
      subst c_17
      refine rb_callVX (As := [.ref (eS Ev RX1 178), .ref (eS Ev RX1 93), .int 0]) (rest := []) C mi_X1_commit sv_X1_174 (hp_k_isC C.pf e_2 ck_X1) (ct_X1_commit Ev h n o (eS Ev RX1 178) (eS Ev RX1 93) 0 (.inr ("java/lang/IllegalArgumentException", q_15)) _ _ _ e_8) rfl rfl (Nat.le_of_ble_eq_true rfl) ⟨Nat.le_of_ble_eq_true rfl, Nat.le_of_ble_eq_true rfl, Bd.c1 hb ea_9, Bd.s1 hb eb_10⟩ dX1_erase_6 (rb_xY (E := "java/lang/IllegalArgumentException") (rb_wX (kc := (0 + k_6)) (ks := (0 + s_7)) rfl rfl ?_)) rb_kY
      have hb := Bd.ade hb ea_9 eb_10
      cases hf
      exact rb_out C (fun _ z => absurd z List.not_mem_nil) hb.e.2.1 hb.e.2.2 ⟨rfl, rfl, hb.e.1⟩
    have hf := (if_neg c_17).symm.trans hf
    by_cases c_18 : E_14 = "java/lang/IndexOutOfBoundsException"
    · have hf := (if_pos c_18).symm.trans hf
      subst c_18
      refine rb_callVX (As := [.ref (eS Ev RX1 178), .ref (eS Ev RX1 93), .int 0]) (rest := []) C mi_X1_commit sv_X1_174 (hp_k_isC C.pf e_2 ck_X1) (ct_X1_commit Ev h n o (eS Ev RX1 178) (eS Ev RX1 93) 0 (.inr ("java/lang/IndexOutOfBoundsException", q_15)) _ _ _ e_8) rfl rfl (Nat.le_of_ble_eq_true rfl) ⟨Nat.le_of_ble_eq_true rfl, Nat.le_of_ble_eq_true rfl, Bd.c1 hb ea_9, Bd.s1 hb eb_10⟩ dX1_erase_6 (rb_xY (E := "java/lang/IndexOutOfBoundsException") (rb_wX (kc := (0 + k_6)) (ks := (0 + s_7)) rfl rfl ?_)) rb_kY
      have hb := Bd.ade hb ea_9 eb_10
      cases hf
      exact rb_out C (fun _ z => absurd z List.not_mem_nil) hb.e.2.1 hb.e.2.2 ⟨rfl, rfl, hb.e.1⟩
    have hf := (if_neg c_18).symm.trans hf
    by_cases c_19 : E_14 = "java/lang/UnsupportedOperationException"
    · have hf := (if_pos c_19).symm.trans hf
      subst c_19
      refine rb_callVX (As := [.ref (eS Ev RX1 178), .ref (eS Ev RX1 93), .int 0]) (rest := []) C mi_X1_commit sv_X1_174 (hp_k_isC C.pf e_2 ck_X1) (ct_X1_commit Ev h n o (eS Ev RX1 178) (eS Ev RX1 93) 0 (.inr ("java/lang/UnsupportedOperationException", q_15)) _ _ _ e_8) rfl rfl (Nat.le_of_ble_eq_true rfl) ⟨Nat.le_of_ble_eq_true rfl, Nat.le_of_ble_eq_true rfl, Bd.c1 hb ea_9, Bd.s1 hb eb_10⟩ dX1_erase_6 (rb_xY (E := "java/lang/UnsupportedOperationException") (rb_wX (kc := (0 + k_6)) (ks := (0 + s_7)) rfl rfl ?_)) rb_kY
      have hb := Bd.ade hb ea_9 eb_10
      cases hf
      exact rb_out C (fun _ z => absurd z List.not_mem_nil) hb.e.2.1 hb.e.2.2 ⟨rfl, rfl, hb.e.1⟩
    have hf := (if_neg c_19).symm.trans hf
    cases hf
def f_X1_characterAt (Ev : rb_E) (h : AH) (n : Nat) (o : Nat) (x1 : Int32) : Option ((Int32 ⊕ (String × Nat)) × AH × Nat × Nat) := ((hp_k Ev h o 0).bind fun u_1 => ((f_X1_length Ev h o).bind fun v_4 => ((f_X1_requireIndex Ev h n x1 v_4).bind fun (r_7, h_8, k_9, s_10) => (ad k_9 s_10 (match r_7 with | .inl v_16 => ((hp_p Ev h_8 o 0 0).bind fun v_19 => ((hp_p Ev h_8 v_19 1 0).bind fun v_21 => ((hp_k Ev h_8 v_21 13).bind fun u_23 => ((f_J1_charAt Ev h_8 v_21 x1).bind fun v_26 => (some (.inl v_26, h_8, 0, 0)))))) | .inr (E_17, q_18) => (if E_17 = "java/lang/IndexOutOfBoundsException" then (some (.inr ("java/lang/IndexOutOfBoundsException", q_18), h_8, 0, 0)) else none))))))
abbrev rm_X1_characterAt (k s : Nat) : Room := { frames := 7, cells := k, slots := s, locals := 110 }
set_option maxHeartbeats 4000000 in
theorem ct_X1_characterAt (Ev : rb_E) (h : AH) (n : Nat) (o : Nat) (x1 : Int32) (r : Int32 ⊕ (String × Nat)) (h' : AH) (k s : Nat) (hf : f_X1_characterAt Ev h n o x1 = some (r, h', k, s)) : Ct Ev yX1_characterAt (ws_ yX1_characterAt cX1_characterAt 2 (some .char)) (rm_X1_characterAt k s) [.ref o, .int x1] h n (pX (rMap (fun v => some (.int v)) r) h' (n + k)) := by
  rw [f_X1_characterAt] at hf
  refine Ct.of rfl (Nat.le_of_ble_eq_true rfl) fun X C hnm => ?_
  have C : Cx Ev X RX1 cX1_characterAt 2 (some .char) [] := C
  show Wa Ev X (rm_X1_characterAt k s) 2 h n 0 0 (rb_MQ Ev X (rm_X1_characterAt k s) (pX (rMap (fun v => some (.int v)) r) h' (n + k))) 0 [(0, .ref o), (1, .int x1)] []
  have hb : Bd (n + k) k s n 0 0 k s := ⟨rfl, Nat.le_of_eq (Nat.zero_add _), Nat.le_of_eq (Nat.zero_add _)⟩
  refine rb_iload_n C dX1_characterAt_0 rfl 1 rfl ?_
  refine rb_aload_n C dX1_characterAt_1 rfl 0 rfl ?_
  obtain ⟨u_1, e_2, hf⟩ := rb_bd hf
  obtain ⟨v_4, e_5, hf⟩ := rb_bd hf
  refine rb_callV (As := []) (rest := [.int x1]) C mi_X1_length sv_X1_188 (hp_k_isC C.pf e_2 ck_X1) (ct_X1_length Ev h n o _ e_5) rfl rfl (Nat.le_of_ble_eq_true rfl) ⟨Nat.le_of_ble_eq_true rfl, Nat.le_of_ble_eq_true rfl, hb.c0, hb.s0⟩ dX1_characterAt_2 rb_xXi (rb_kXi fun hn_3 => (rb_w (kc := 0) (ks := 0) rfl rfl ?_))
  obtain ⟨⟨r_7, h_8, k_9, s_10⟩, e_11, hf⟩ := rb_bd hf
  obtain ⟨a_14, b_15, hf, ea_12, eb_13⟩ := ad_at hf
  rcases r_7 with v_16 | ⟨E_17, q_18⟩
  · dsimp only at hf
    refine rb_callS (As := [.int x1, .int v_4]) (rest := []) C mi_X1_requireIndex ss_X1_189 (ct_X1_requireIndex Ev h n x1 v_4 (.inl v_16) _ _ _ e_11) rfl rfl (Nat.le_of_ble_eq_true rfl) ⟨Nat.le_of_ble_eq_true rfl, Nat.le_of_ble_eq_true rfl, Bd.c1 hb ea_12, Bd.s1 hb eb_13⟩ dX1_characterAt_5 rb_xX (rb_kX (r := none) (rb_w (kc := (0 + k_9)) (ks := (0 + s_10)) rfl rfl ?_))
    have hb := Bd.ade hb ea_12 eb_13
    refine rb_aload_n C dX1_characterAt_8 rfl 0 rfl ?_
    obtain ⟨v_19, e_20, hf⟩ := rb_bd hf
    refine rb_hP C fl_X1_104_X1 e_20 dX1_characterAt_9 ?_
    obtain ⟨v_21, e_22, hf⟩ := rb_bd hf
    refine rb_hP C fl_X1_182_X2 e_22 dX1_characterAt_12 ?_
    refine rb_iload_n C dX1_characterAt_15 rfl 1 rfl ?_
    obtain ⟨u_23, e_24, hf⟩ := rb_bd hf
    obtain ⟨v_26, e_27, hf⟩ := rb_bd hf
    refine rb_callV (As := [.int x1]) (rest := []) C mi_J1_charAt sv_X1_192 (hp_k_isC C.pf e_24 ck_J1) (ct_J1_charAt Ev h_8 (n + k_9) v_21 x1 _ e_27) rfl rfl (Nat.le_of_ble_eq_true rfl) ⟨Nat.le_of_ble_eq_true rfl, Nat.le_of_ble_eq_true rfl, hb.c0, hb.s0⟩ dX1_characterAt_16 rb_xXi (rb_kXi fun hn_25 => (rb_w (kc := (0 + k_9)) (ks := (0 + s_10)) rfl rfl ?_))
    cases hf
    exact rb_iret C rfl hn_25 hb.e.2.1 hb.e.2.2 dX1_characterAt_19 ⟨rfl, rfl, hb.e.1⟩
  · dsimp only at hf
    by_cases c_28 : E_17 = "java/lang/IndexOutOfBoundsException"
    · have hf := (if_pos c_28).symm.trans hf
      subst c_28
      refine rb_callS (As := [.int x1, .int v_4]) (rest := []) C mi_X1_requireIndex ss_X1_189 (ct_X1_requireIndex Ev h n x1 v_4 (.inr ("java/lang/IndexOutOfBoundsException", q_18)) _ _ _ e_11) rfl rfl (Nat.le_of_ble_eq_true rfl) ⟨Nat.le_of_ble_eq_true rfl, Nat.le_of_ble_eq_true rfl, Bd.c1 hb ea_12, Bd.s1 hb eb_13⟩ dX1_characterAt_5 (rb_xY (E := "java/lang/IndexOutOfBoundsException") (rb_wX (kc := (0 + k_9)) (ks := (0 + s_10)) rfl rfl ?_)) rb_kY
      have hb := Bd.ade hb ea_12 eb_13
      cases hf
      exact rb_out C (fun _ z => absurd z List.not_mem_nil) hb.e.2.1 hb.e.2.2 ⟨rfl, rfl, hb.e.1⟩
    have hf := (if_neg c_28).symm.trans hf
    cases hf
def f_X1_requireElement (Ev : rb_E) (h : AH) (n : Nat) (x0 : Int32) : Option ((Unit ⊕ (String × Nat)) × AH × Nat × Nat) := (if x0 = 0 then (some (.inr ("java/util/NoSuchElementException", n), h, 1, 6)) else (some (.inl (), h, 0, 0)))
abbrev rm_X1_requireElement (k s : Nat) : Room := { frames := 6, cells := k, slots := s, locals := 89 }
set_option maxHeartbeats 4000000 in
theorem ct_X1_requireElement (Ev : rb_E) (h : AH) (n : Nat) (x0 : Int32) (r : Unit ⊕ (String × Nat)) (h' : AH) (k s : Nat) (hf : f_X1_requireElement Ev h n x0 = some (r, h', k, s)) : Ct Ev yX1_requireElement (ws_ yX1_requireElement cX1_requireElement 1 none) (rm_X1_requireElement k s) [.int x0] h n (pX (rMap (fun _ => none) r) h' (n + k)) := by
  rw [f_X1_requireElement] at hf
  refine Ct.of rfl (Nat.le_of_ble_eq_true rfl) fun X C hnm => ?_
  have C : Cx Ev X RX1 cX1_requireElement 1 none [] := C
  show Wa Ev X (rm_X1_requireElement k s) 1 h n 0 0 (rb_MQ Ev X (rm_X1_requireElement k s) (pX (rMap (fun _ => none) r) h' (n + k))) 0 [(0, .int x0)] []
  have hb : Bd (n + k) k s n 0 0 k s := ⟨rfl, Nat.le_of_eq (Nat.zero_add _), Nat.le_of_eq (Nat.zero_add _)⟩
  refine rb_iload_n C dX1_requireElement_0 rfl 0 rfl ?_
  refine rb_if_ne (tgt := 12) C dX1_requireElement_1 (by decide) (fun c_1 => ?_) (fun c_1 => ?_)
  · have hf := (if_neg c_1).symm.trans hf
    cases hf
    exact rb_vret C rfl hb.e.2.1 hb.e.2.2 dX1_requireElement_12 ⟨rfl, rfl, hb.e.1⟩
  · have hf := (if_pos c_1).symm.trans hf
    cases hf
    exact rb_hthrow0 C t0_X1_18 t0_X1_18k dX1_requireElement_4 dX1_requireElement_7 dX1_requireElement_8 dX1_requireElement_11 (fun _ z => absurd z List.not_mem_nil) (Nat.le_of_ble_eq_true rfl) (Nat.le_of_ble_eq_true rfl) (by have := hb.e.2.1; exact this) (by have := hb.e.2.2; exact this) ⟨rfl, rfl, (by have := hb.e.1; exact this)⟩
def f_X1_breakPlace_j18_9 (Ev : rb_E) (h : AH) (n : Nat) (v_6 : Int32) (w0_j18_9 : Int32) : Option ((Int32 ⊕ (String × Nat)) × AH × Nat × Nat) := ((f_X1_requireElement Ev h n w0_j18_9).bind fun (r_11, h_12, k_13, s_14) => (ad k_13 s_14 (match r_11 with | .inl v_20 => (some (.inl v_6, h_12, 0, 0)) | .inr (E_21, q_22) => (if E_21 = "java/util/NoSuchElementException" then (some (.inr ("java/util/NoSuchElementException", q_22), h_12, 0, 0)) else none))))
def f_X1_breakPlace (Ev : rb_E) (h : AH) (n : Nat) (o : Nat) : Option ((Int32 ⊕ (String × Nat)) × AH × Nat × Nat) := ((hp_p Ev h o 0 0).bind fun v_1 => ((hp_k Ev h v_1 1).bind fun u_3 => ((f_X2_breakPlace Ev h v_1).bind fun v_6 => (if v_6 = (-1) then (f_X1_breakPlace_j18_9 Ev h n v_6 0) else (f_X1_breakPlace_j18_9 Ev h n v_6 1)))))
abbrev rm_X1_breakPlace (k s : Nat) : Room := { frames := 9, cells := k, slots := s, locals := 206 }
set_option maxHeartbeats 4000000 in
theorem ct_X1_breakPlace (Ev : rb_E) (h : AH) (n : Nat) (o : Nat) (r : Int32 ⊕ (String × Nat)) (h' : AH) (k s : Nat) (hf : f_X1_breakPlace Ev h n o = some (r, h', k, s)) : Ct Ev yX1_breakPlace (ws_ yX1_breakPlace cX1_breakPlace 2 (some .int)) (rm_X1_breakPlace k s) [.ref o] h n (pX (rMap (fun v => some (.int v)) r) h' (n + k)) := by
  rw [f_X1_breakPlace] at hf
  refine Ct.of rfl (Nat.le_of_ble_eq_true rfl) fun X C hnm => ?_
  have C : Cx Ev X RX1 cX1_breakPlace 2 (some .int) [] := C
  show Wa Ev X (rm_X1_breakPlace k s) 2 h n 0 0 (rb_MQ Ev X (rm_X1_breakPlace k s) (pX (rMap (fun v => some (.int v)) r) h' (n + k))) 0 [(0, .ref o)] []
  have hb : Bd (n + k) k s n 0 0 k s := ⟨rfl, Nat.le_of_eq (Nat.zero_add _), Nat.le_of_eq (Nat.zero_add _)⟩
  refine rb_aload_n C dX1_breakPlace_0 rfl 0 rfl ?_
  obtain ⟨v_1, e_2, hf⟩ := rb_bd hf
  refine rb_hP C fl_X1_104_X1 e_2 dX1_breakPlace_1 ?_
  obtain ⟨u_3, e_4, hf⟩ := rb_bd hf
  obtain ⟨v_6, e_7, hf⟩ := rb_bd hf
  refine rb_callV (As := []) (rest := []) C mi_X2_breakPlace sv_X1_199 (hp_k_isC C.pf e_4 ck_X2) (ct_X2_breakPlace Ev h n v_1 _ e_7) rfl rfl (Nat.le_of_ble_eq_true rfl) ⟨Nat.le_of_ble_eq_true rfl, Nat.le_of_ble_eq_true rfl, hb.c0, hb.s0⟩ dX1_breakPlace_4 rb_xXi (rb_kXi fun hn_5 => (rb_w (kc := 0) (ks := 0) rfl rfl ?_))
  refine rb_istore_n (lv' := [(1, .int v_6), (0, .ref o)]) C dX1_breakPlace_7 rfl (by decide) rfl ?_
  refine rb_iload_n C dX1_breakPlace_8 rfl 0 rfl ?_
  refine rb_iconst (v := (-1)) C dX1_breakPlace_9 rfl ?_
  have J_j18_9 : ∀ (w0_j18_9 : Int32) (kc_j18_9 ks_j18_9 a_ b_ : Nat), f_X1_breakPlace_j18_9 Ev h n v_6 w0_j18_9 = some (r, h', a_, b_) → Bd (n + k) k s n kc_j18_9 ks_j18_9 a_ b_ → Wa Ev X (rm_X1_breakPlace k s) 2 h n kc_j18_9 ks_j18_9 (rb_MQ Ev X (rm_X1_breakPlace k s) (pX (rMap (fun v => some (.int v)) r) h' (n + k))) 18 [(0, .ref o), (1, .int v_6)] [.int w0_j18_9] := by
    intro w0_j18_9 kc_j18_9 ks_j18_9 a_ b_ hf hb
    rw [f_X1_breakPlace_j18_9] at hf
    obtain ⟨⟨r_11, h_12, k_13, s_14⟩, e_15, hf⟩ := rb_bd hf
    obtain ⟨a_18, b_19, hf, ea_16, eb_17⟩ := ad_at hf
    rcases r_11 with v_20 | ⟨E_21, q_22⟩
    · dsimp only at hf
      refine rb_callS (As := [.int w0_j18_9]) (rest := []) C mi_X1_requireElement ss_X1_202 (ct_X1_requireElement Ev h n w0_j18_9 (.inl v_20) _ _ _ e_15) rfl rfl (Nat.le_of_ble_eq_true rfl) ⟨Nat.le_of_ble_eq_true rfl, Nat.le_of_ble_eq_true rfl, Bd.c1 hb ea_16, Bd.s1 hb eb_17⟩ dX1_breakPlace_18 rb_xX (rb_kX (r := none) (rb_w (kc := (kc_j18_9 + k_13)) (ks := (ks_j18_9 + s_14)) rfl rfl ?_))
      have hb := Bd.ade hb ea_16 eb_17
      refine rb_iload_n C dX1_breakPlace_21 rfl 1 rfl ?_
      cases hf
      exact rb_iret C rfl rfl hb.e.2.1 hb.e.2.2 dX1_breakPlace_22 ⟨rfl, rfl, hb.e.1⟩
    · dsimp only at hf
      by_cases c_23 : E_21 = "java/util/NoSuchElementException"
      · have hf := (if_pos c_23).symm.trans hf
        subst c_23
        refine rb_callS (As := [.int w0_j18_9]) (rest := []) C mi_X1_requireElement ss_X1_202 (ct_X1_requireElement Ev h n w0_j18_9 (.inr ("java/util/NoSuchElementException", q_22)) _ _ _ e_15) rfl rfl (Nat.le_of_ble_eq_true rfl) ⟨Nat.le_of_ble_eq_true rfl, Nat.le_of_ble_eq_true rfl, Bd.c1 hb ea_16, Bd.s1 hb eb_17⟩ dX1_breakPlace_18 (rb_xY (E := "java/util/NoSuchElementException") (rb_wX (kc := (kc_j18_9 + k_13)) (ks := (ks_j18_9 + s_14)) rfl rfl ?_)) rb_kY
        have hb := Bd.ade hb ea_16 eb_17
        cases hf
        exact rb_out C (fun _ z => absurd z List.not_mem_nil) hb.e.2.1 hb.e.2.2 ⟨rfl, rfl, hb.e.1⟩
      have hf := (if_neg c_23).symm.trans hf
      cases hf
  refine rb_icmp_eq (tgt := 17) C dX1_breakPlace_10 (by decide) (fun c_8 => ?_) (fun c_8 => ?_)
  · have hf := (if_pos c_8).symm.trans hf
    refine rb_iconst (v := 0) C dX1_breakPlace_17 rfl ?_
    refine rb_sub [1, 0] rfl ?_
    exact J_j18_9 0  _ _ _ _ hf hb
  · have hf := (if_neg c_8).symm.trans hf
    refine rb_iconst (v := 1) C dX1_breakPlace_13 rfl ?_
    refine rb_goto (tgt := 18) C dX1_breakPlace_14 (by decide) ?_
    refine rb_sub [1, 0] rfl ?_
    exact J_j18_9 1  _ _ _ _ hf hb
def f_X1_setColour (Ev : rb_E) (h : AH) (n : Nat) (o : Nat) (x1 : Int32) (x2 : Int32) : Option ((Int32 ⊕ (String × Nat)) × AH × Nat × Nat) := (ad 1 4 (rb_lt (va_up h n (some (.inr (13, [.null, .int 0, .int 0, .int 0])))) fun h_5 => ((f_J1_init Ev h_5 (n + 1) n).bind fun (r_7, h_8, k_9, s_10) => (ad k_9 s_10 ((hp_k Ev h_8 n 13).bind fun u_16 => ((f_J1_append_3 Ev h_8 ((n + 1) + k_9) n (eS Ev RX1 93)).bind fun (r_19, h_20, k_21, s_22) => (ad k_21 s_22 ((hp_k Ev h_20 r_19 13).bind fun u_28 => ((f_J1_append_7 Ev h_20 (((n + 1) + k_9) + k_21) r_19 x1).bind fun (r_31, h_32, k_33, s_34) => (ad k_33 s_34 ((hp_k Ev h_32 r_31 13).bind fun u_40 => ((f_J1_toString Ev h_32 ((((n + 1) + k_9) + k_21) + k_33) r_31).bind fun (r_43, h_44, k_45, s_46) => (ad k_45 s_46 ((hp_k Ev h_44 o 0).bind fun u_52 => ((f_X1_commit Ev h_44 (((((n + 1) + k_9) + k_21) + k_33) + k_45) o (eS Ev RX1 205) r_43 x2).bind fun (r_55, h_56, k_57, s_58) => (ad k_57 s_58 (match r_55 with | .inl v_64 => (some (.inl v_64, h_56, 0, 0)) | .inr (E_65, q_66) => (if E_65 = "java/lang/IllegalArgumentException" then (some (.inr ("java/lang/IllegalArgumentException", q_66), h_56, 0, 0)) else (if E_65 = "java/lang/IndexOutOfBoundsException" then (some (.inr ("java/lang/IndexOutOfBoundsException", q_66), h_56, 0, 0)) else (if E_65 = "java/lang/UnsupportedOperationException" then (some (.inr ("java/lang/UnsupportedOperationException", q_66), h_56, 0, 0)) else none))))))))))))))))))))
abbrev rm_X1_setColour (k s : Nat) : Room := { frames := 77, cells := k, slots := s, locals := 2916 }
set_option maxHeartbeats 4000000 in
theorem ct_X1_setColour (Ev : rb_E) (h : AH) (n : Nat) (o : Nat) (x1 : Int32) (x2 : Int32) (r : Int32 ⊕ (String × Nat)) (h' : AH) (k s : Nat) (hf : f_X1_setColour Ev h n o x1 x2 = some (r, h', k, s)) : Ct Ev yX1_setColour (ws_ yX1_setColour cX1_setColour 3 (some .int)) (rm_X1_setColour k s) [.ref o, .int x1, .int x2] h n (pX (rMap (fun v => some (.int v)) r) h' (n + k)) := by
  rw [f_X1_setColour] at hf
  refine Ct.of rfl (Nat.le_of_ble_eq_true rfl) fun X C hnm => ?_
  have C : Cx Ev X RX1 cX1_setColour 3 (some .int) [] := C
  show Wa Ev X (rm_X1_setColour k s) 3 h n 0 0 (rb_MQ Ev X (rm_X1_setColour k s) (pX (rMap (fun v => some (.int v)) r) h' (n + k))) 0 [(0, .ref o), (1, .int x1), (2, .int x2)] []
  have hb : Bd (n + k) k s n 0 0 k s := ⟨rfl, Nat.le_of_eq (Nat.zero_add _), Nat.le_of_eq (Nat.zero_add _)⟩
  refine rb_aload_n C dX1_setColour_0 rfl 0 rfl ?_
  refine rb_ldcS C q1433 dX1_setColour_1 ?_
  obtain ⟨a_3, b_4, hf, ea_1, eb_2⟩ := ad_at hf
  refine rb_hnew C ck_J1 q225 q132 q72 [.null, .int 0, .int 0, .int 0] rfl (Bd.c1 hb ea_1) (Bd.s1 hb eb_2) dX1_setColour_3 ?_
  have hb := Bd.ade hb ea_1 eb_2
  obtain ⟨h_5, e_h_5⟩ : ∃ z, z = (va_up h n (some (.inr (13, [.null, .int 0, .int 0, .int 0])))) := ⟨_, rfl⟩
  rw [← e_h_5]
  have hf := rb_let hf e_h_5
  refine rb_dup C dX1_setColour_6 rfl ?_
  obtain ⟨⟨r_7, h_8, k_9, s_10⟩, e_11, hf⟩ := rb_bd hf
  obtain ⟨a_14, b_15, hf, ea_12, eb_13⟩ := ad_at hf
  refine rb_callI (As := []) (rest := [.ref n, .ref (eS Ev RX1 205), .ref o]) C mi_J1_init si_X1_65 (ct_J1_init Ev h_5 (n + 1) n r_7 _ _ _ e_11) rfl rfl (Nat.le_of_ble_eq_true rfl) ⟨Nat.le_of_ble_eq_true rfl, Nat.le_of_ble_eq_true rfl, Bd.c1 hb ea_12, Bd.s1 hb eb_13⟩ dX1_setColour_7 rb_xX (rb_kX (rb_w (kc := ((0 + 1) + k_9)) (ks := ((0 + 4) + s_10)) rfl rfl ?_))
  have hb := Bd.ade hb ea_12 eb_13
  refine rb_ldcS C q227 dX1_setColour_10 ?_
  obtain ⟨u_16, e_17, hf⟩ := rb_bd hf
  obtain ⟨⟨r_19, h_20, k_21, s_22⟩, e_23, hf⟩ := rb_bd hf
  obtain ⟨a_26, b_27, hf, ea_24, eb_25⟩ := ad_at hf
  refine rb_callV (As := [.ref (eS Ev RX1 93)]) (rest := [.ref (eS Ev RX1 205), .ref o]) C mi_J1_append_3 sv_X1_68 (hp_k_isC C.pf e_17 ck_J1) (ct_J1_append_3 Ev h_8 ((n + 1) + k_9) n (eS Ev RX1 93) r_19 _ _ _ e_23) rfl rfl (Nat.le_of_ble_eq_true rfl) ⟨Nat.le_of_ble_eq_true rfl, Nat.le_of_ble_eq_true rfl, Bd.c1 hb ea_24, Bd.s1 hb eb_25⟩ dX1_setColour_12 rb_xX (rb_kX (rb_w (kc := (((0 + 1) + k_9) + k_21)) (ks := (((0 + 4) + s_10) + s_22)) rfl rfl ?_))
  have hb := Bd.ade hb ea_24 eb_25
  refine rb_iload_n C dX1_setColour_15 rfl 1 rfl ?_
  obtain ⟨u_28, e_29, hf⟩ := rb_bd hf
  obtain ⟨⟨r_31, h_32, k_33, s_34⟩, e_35, hf⟩ := rb_bd hf
  obtain ⟨a_38, b_39, hf, ea_36, eb_37⟩ := ad_at hf
  refine rb_callV (As := [.int x1]) (rest := [.ref (eS Ev RX1 205), .ref o]) C mi_J1_append_7 sv_X1_88 (hp_k_isC C.pf e_29 ck_J1) (ct_J1_append_7 Ev h_20 (((n + 1) + k_9) + k_21) r_19 x1 r_31 _ _ _ e_35) rfl rfl (Nat.le_of_ble_eq_true rfl) ⟨Nat.le_of_ble_eq_true rfl, Nat.le_of_ble_eq_true rfl, Bd.c1 hb ea_36, Bd.s1 hb eb_37⟩ dX1_setColour_16 rb_xX (rb_kX (rb_w (kc := ((((0 + 1) + k_9) + k_21) + k_33)) (ks := ((((0 + 4) + s_10) + s_22) + s_34)) rfl rfl ?_))
  have hb := Bd.ade hb ea_36 eb_37
  obtain ⟨u_40, e_41, hf⟩ := rb_bd hf
  obtain ⟨⟨r_43, h_44, k_45, s_46⟩, e_47, hf⟩ := rb_bd hf
  obtain ⟨a_50, b_51, hf, ea_48, eb_49⟩ := ad_at hf
  refine rb_callV (As := []) (rest := [.ref (eS Ev RX1 205), .ref o]) C mi_J1_toString sv_X1_78 (hp_k_isC C.pf e_41 ck_J1) (ct_J1_toString Ev h_32 ((((n + 1) + k_9) + k_21) + k_33) r_31 r_43 _ _ _ e_47) rfl rfl (Nat.le_of_ble_eq_true rfl) ⟨Nat.le_of_ble_eq_true rfl, Nat.le_of_ble_eq_true rfl, Bd.c1 hb ea_48, Bd.s1 hb eb_49⟩ dX1_setColour_19 rb_xX (rb_kX (rb_w (kc := (((((0 + 1) + k_9) + k_21) + k_33) + k_45)) (ks := (((((0 + 4) + s_10) + s_22) + s_34) + s_46)) rfl rfl ?_))
  have hb := Bd.ade hb ea_48 eb_49
  refine rb_iload_n C dX1_setColour_22 rfl 2 rfl ?_
  obtain ⟨u_52, e_53, hf⟩ := rb_bd hf
  obtain ⟨⟨r_55, h_56, k_57, s_58⟩, e_59, hf⟩ := rb_bd hf
  obtain ⟨a_62, b_63, hf, ea_60, eb_61⟩ := ad_at hf
  rcases r_55 with v_64 | ⟨E_65, q_66⟩
  · dsimp only at hf
    refine rb_callVX (As := [.ref (eS Ev RX1 205), .ref r_43, .int x2]) (rest := []) C mi_X1_commit sv_X1_174 (hp_k_isC C.pf e_53 ck_X1) (ct_X1_commit Ev h_44 (((((n + 1) + k_9) + k_21) + k_33) + k_45) o (eS Ev RX1 205) r_43 x2 (.inl v_64) _ _ _ e_59) rfl rfl (Nat.le_of_ble_eq_true rfl) ⟨Nat.le_of_ble_eq_true rfl, Nat.le_of_ble_eq_true rfl, Bd.c1 hb ea_60, Bd.s1 hb eb_61⟩ dX1_setColour_23 rb_xX (rb_kX (r := some (.int v_64)) (rb_w (kc := ((((((0 + 1) + k_9) + k_21) + k_33) + k_45) + k_57)) (ks := ((((((0 + 4) + s_10) + s_22) + s_34) + s_46) + s_58)) rfl rfl ?_))
    have hb := Bd.ade hb ea_60 eb_61
    cases hf
    exact rb_iret C rfl rfl hb.e.2.1 hb.e.2.2 dX1_setColour_26 ⟨rfl, rfl, hb.e.1⟩
  · dsimp only at hf
    by_cases c_67 : E_65 = "java/lang/IllegalArgumentException"
    · have hf := (if_pos c_67).symm.trans hf
      subst c_67
      refine rb_callVX (As := [.ref (eS Ev RX1 205), .ref r_43, .int x2]) (rest := []) C mi_X1_commit sv_X1_174 (hp_k_isC C.pf e_53 ck_X1) (ct_X1_commit Ev h_44 (((((n + 1) + k_9) + k_21) + k_33) + k_45) o (eS Ev RX1 205) r_43 x2 (.inr ("java/lang/IllegalArgumentException", q_66)) _ _ _ e_59) rfl rfl (Nat.le_of_ble_eq_true rfl) ⟨Nat.le_of_ble_eq_true rfl, Nat.le_of_ble_eq_true rfl, Bd.c1 hb ea_60, Bd.s1 hb eb_61⟩ dX1_setColour_23 (rb_xY (E := "java/lang/IllegalArgumentException") (rb_wX (kc := ((((((0 + 1) + k_9) + k_21) + k_33) + k_45) + k_57)) (ks := ((((((0 + 4) + s_10) + s_22) + s_34) + s_46) + s_58)) rfl rfl ?_)) rb_kY
      have hb := Bd.ade hb ea_60 eb_61
      cases hf
      exact rb_out C (fun _ z => absurd z List.not_mem_nil) hb.e.2.1 hb.e.2.2 ⟨rfl, rfl, hb.e.1⟩
    have hf := (if_neg c_67).symm.trans hf
    by_cases c_68 : E_65 = "java/lang/IndexOutOfBoundsException"
    · have hf := (if_pos c_68).symm.trans hf
      subst c_68
      refine rb_callVX (As := [.ref (eS Ev RX1 205), .ref r_43, .int x2]) (rest := []) C mi_X1_commit sv_X1_174 (hp_k_isC C.pf e_53 ck_X1) (ct_X1_commit Ev h_44 (((((n + 1) + k_9) + k_21) + k_33) + k_45) o (eS Ev RX1 205) r_43 x2 (.inr ("java/lang/IndexOutOfBoundsException", q_66)) _ _ _ e_59) rfl rfl (Nat.le_of_ble_eq_true rfl) ⟨Nat.le_of_ble_eq_true rfl, Nat.le_of_ble_eq_true rfl, Bd.c1 hb ea_60, Bd.s1 hb eb_61⟩ dX1_setColour_23 (rb_xY (E := "java/lang/IndexOutOfBoundsException") (rb_wX (kc := ((((((0 + 1) + k_9) + k_21) + k_33) + k_45) + k_57)) (ks := ((((((0 + 4) + s_10) + s_22) + s_34) + s_46) + s_58)) rfl rfl ?_)) rb_kY
      have hb := Bd.ade hb ea_60 eb_61
      cases hf
      exact rb_out C (fun _ z => absurd z List.not_mem_nil) hb.e.2.1 hb.e.2.2 ⟨rfl, rfl, hb.e.1⟩
    have hf := (if_neg c_68).symm.trans hf
    by_cases c_69 : E_65 = "java/lang/UnsupportedOperationException"
    · have hf := (if_pos c_69).symm.trans hf
      subst c_69
      refine rb_callVX (As := [.ref (eS Ev RX1 205), .ref r_43, .int x2]) (rest := []) C mi_X1_commit sv_X1_174 (hp_k_isC C.pf e_53 ck_X1) (ct_X1_commit Ev h_44 (((((n + 1) + k_9) + k_21) + k_33) + k_45) o (eS Ev RX1 205) r_43 x2 (.inr ("java/lang/UnsupportedOperationException", q_66)) _ _ _ e_59) rfl rfl (Nat.le_of_ble_eq_true rfl) ⟨Nat.le_of_ble_eq_true rfl, Nat.le_of_ble_eq_true rfl, Bd.c1 hb ea_60, Bd.s1 hb eb_61⟩ dX1_setColour_23 (rb_xY (E := "java/lang/UnsupportedOperationException") (rb_wX (kc := ((((((0 + 1) + k_9) + k_21) + k_33) + k_45) + k_57)) (ks := ((((((0 + 4) + s_10) + s_22) + s_34) + s_46) + s_58)) rfl rfl ?_)) rb_kY
      have hb := Bd.ade hb ea_60 eb_61
      cases hf
      exact rb_out C (fun _ z => absurd z List.not_mem_nil) hb.e.2.1 hb.e.2.2 ⟨rfl, rfl, hb.e.1⟩
    have hf := (if_neg c_69).symm.trans hf
    cases hf
def f_X1_setMeaning (Ev : rb_E) (h : AH) (n : Nat) (o : Nat) (x1 : Int32) (x2 : Int32) : Option ((Int32 ⊕ (String × Nat)) × AH × Nat × Nat) := (ad 1 4 (rb_lt (va_up h n (some (.inr (13, [.null, .int 0, .int 0, .int 0])))) fun h_5 => ((f_J1_init Ev h_5 (n + 1) n).bind fun (r_7, h_8, k_9, s_10) => (ad k_9 s_10 ((hp_k Ev h_8 n 13).bind fun u_16 => ((f_J1_append_3 Ev h_8 ((n + 1) + k_9) n (eS Ev RX1 93)).bind fun (r_19, h_20, k_21, s_22) => (ad k_21 s_22 ((hp_k Ev h_20 r_19 13).bind fun u_28 => ((f_J1_append_7 Ev h_20 (((n + 1) + k_9) + k_21) r_19 x1).bind fun (r_31, h_32, k_33, s_34) => (ad k_33 s_34 ((hp_k Ev h_32 r_31 13).bind fun u_40 => ((f_J1_append_7 Ev h_32 ((((n + 1) + k_9) + k_21) + k_33) r_31 x2).bind fun (r_43, h_44, k_45, s_46) => (ad k_45 s_46 ((hp_k Ev h_44 r_43 13).bind fun u_52 => ((f_J1_toString Ev h_44 (((((n + 1) + k_9) + k_21) + k_33) + k_45) r_43).bind fun (r_55, h_56, k_57, s_58) => (ad k_57 s_58 ((hp_k Ev h_56 o 0).bind fun u_64 => ((f_X1_commit Ev h_56 ((((((n + 1) + k_9) + k_21) + k_33) + k_45) + k_57) o (eS Ev RX1 207) r_55 0).bind fun (r_67, h_68, k_69, s_70) => (ad k_69 s_70 (match r_67 with | .inl v_76 => (some (.inl ((v_76.toUInt32 % 65536).toInt32), h_68, 0, 0)) | .inr (E_77, q_78) => (if E_77 = "java/lang/IllegalArgumentException" then (some (.inr ("java/lang/IllegalArgumentException", q_78), h_68, 0, 0)) else (if E_77 = "java/lang/IndexOutOfBoundsException" then (some (.inr ("java/lang/IndexOutOfBoundsException", q_78), h_68, 0, 0)) else (if E_77 = "java/lang/UnsupportedOperationException" then (some (.inr ("java/lang/UnsupportedOperationException", q_78), h_68, 0, 0)) else none)))))))))))))))))))))))
abbrev rm_X1_setMeaning (k s : Nat) : Room := { frames := 77, cells := k, slots := s, locals := 2916 }
set_option maxHeartbeats 4000000 in
theorem ct_X1_setMeaning (Ev : rb_E) (h : AH) (n : Nat) (o : Nat) (x1 : Int32) (x2 : Int32) (r : Int32 ⊕ (String × Nat)) (h' : AH) (k s : Nat) (hf : f_X1_setMeaning Ev h n o x1 x2 = some (r, h', k, s)) : Ct Ev yX1_setMeaning (ws_ yX1_setMeaning cX1_setMeaning 3 (some .char)) (rm_X1_setMeaning k s) [.ref o, .int x1, .int x2] h n (pX (rMap (fun v => some (.int v)) r) h' (n + k)) := by
  rw [f_X1_setMeaning] at hf
  refine Ct.of rfl (Nat.le_of_ble_eq_true rfl) fun X C hnm => ?_
  have C : Cx Ev X RX1 cX1_setMeaning 3 (some .char) [] := C
  show Wa Ev X (rm_X1_setMeaning k s) 3 h n 0 0 (rb_MQ Ev X (rm_X1_setMeaning k s) (pX (rMap (fun v => some (.int v)) r) h' (n + k))) 0 [(0, .ref o), (1, .int x1), (2, .int x2)] []
  have hb : Bd (n + k) k s n 0 0 k s := ⟨rfl, Nat.le_of_eq (Nat.zero_add _), Nat.le_of_eq (Nat.zero_add _)⟩
  refine rb_aload_n C dX1_setMeaning_0 rfl 0 rfl ?_
  refine rb_ldcS C q1441 dX1_setMeaning_1 ?_
  obtain ⟨a_3, b_4, hf, ea_1, eb_2⟩ := ad_at hf
  refine rb_hnew C ck_J1 q225 q132 q72 [.null, .int 0, .int 0, .int 0] rfl (Bd.c1 hb ea_1) (Bd.s1 hb eb_2) dX1_setMeaning_3 ?_
  have hb := Bd.ade hb ea_1 eb_2
  obtain ⟨h_5, e_h_5⟩ : ∃ z, z = (va_up h n (some (.inr (13, [.null, .int 0, .int 0, .int 0])))) := ⟨_, rfl⟩
  rw [← e_h_5]
  have hf := rb_let hf e_h_5
  refine rb_dup C dX1_setMeaning_6 rfl ?_
  obtain ⟨⟨r_7, h_8, k_9, s_10⟩, e_11, hf⟩ := rb_bd hf
  obtain ⟨a_14, b_15, hf, ea_12, eb_13⟩ := ad_at hf
  refine rb_callI (As := []) (rest := [.ref n, .ref (eS Ev RX1 207), .ref o]) C mi_J1_init si_X1_65 (ct_J1_init Ev h_5 (n + 1) n r_7 _ _ _ e_11) rfl rfl (Nat.le_of_ble_eq_true rfl) ⟨Nat.le_of_ble_eq_true rfl, Nat.le_of_ble_eq_true rfl, Bd.c1 hb ea_12, Bd.s1 hb eb_13⟩ dX1_setMeaning_7 rb_xX (rb_kX (rb_w (kc := ((0 + 1) + k_9)) (ks := ((0 + 4) + s_10)) rfl rfl ?_))
  have hb := Bd.ade hb ea_12 eb_13
  refine rb_ldcS C q227 dX1_setMeaning_10 ?_
  obtain ⟨u_16, e_17, hf⟩ := rb_bd hf
  obtain ⟨⟨r_19, h_20, k_21, s_22⟩, e_23, hf⟩ := rb_bd hf
  obtain ⟨a_26, b_27, hf, ea_24, eb_25⟩ := ad_at hf
  refine rb_callV (As := [.ref (eS Ev RX1 93)]) (rest := [.ref (eS Ev RX1 207), .ref o]) C mi_J1_append_3 sv_X1_68 (hp_k_isC C.pf e_17 ck_J1) (ct_J1_append_3 Ev h_8 ((n + 1) + k_9) n (eS Ev RX1 93) r_19 _ _ _ e_23) rfl rfl (Nat.le_of_ble_eq_true rfl) ⟨Nat.le_of_ble_eq_true rfl, Nat.le_of_ble_eq_true rfl, Bd.c1 hb ea_24, Bd.s1 hb eb_25⟩ dX1_setMeaning_12 rb_xX (rb_kX (rb_w (kc := (((0 + 1) + k_9) + k_21)) (ks := (((0 + 4) + s_10) + s_22)) rfl rfl ?_))
  have hb := Bd.ade hb ea_24 eb_25
  refine rb_iload_n C dX1_setMeaning_15 rfl 1 rfl ?_
  obtain ⟨u_28, e_29, hf⟩ := rb_bd hf
  obtain ⟨⟨r_31, h_32, k_33, s_34⟩, e_35, hf⟩ := rb_bd hf
  obtain ⟨a_38, b_39, hf, ea_36, eb_37⟩ := ad_at hf
  refine rb_callV (As := [.int x1]) (rest := [.ref (eS Ev RX1 207), .ref o]) C mi_J1_append_7 sv_X1_88 (hp_k_isC C.pf e_29 ck_J1) (ct_J1_append_7 Ev h_20 (((n + 1) + k_9) + k_21) r_19 x1 r_31 _ _ _ e_35) rfl rfl (Nat.le_of_ble_eq_true rfl) ⟨Nat.le_of_ble_eq_true rfl, Nat.le_of_ble_eq_true rfl, Bd.c1 hb ea_36, Bd.s1 hb eb_37⟩ dX1_setMeaning_16 rb_xX (rb_kX (rb_w (kc := ((((0 + 1) + k_9) + k_21) + k_33)) (ks := ((((0 + 4) + s_10) + s_22) + s_34)) rfl rfl ?_))
  have hb := Bd.ade hb ea_36 eb_37
  refine rb_iload_n C dX1_setMeaning_19 rfl 2 rfl ?_
  obtain ⟨u_40, e_41, hf⟩ := rb_bd hf
  obtain ⟨⟨r_43, h_44, k_45, s_46⟩, e_47, hf⟩ := rb_bd hf
  obtain ⟨a_50, b_51, hf, ea_48, eb_49⟩ := ad_at hf
  refine rb_callV (As := [.int x2]) (rest := [.ref (eS Ev RX1 207), .ref o]) C mi_J1_append_7 sv_X1_88 (hp_k_isC C.pf e_41 ck_J1) (ct_J1_append_7 Ev h_32 ((((n + 1) + k_9) + k_21) + k_33) r_31 x2 r_43 _ _ _ e_47) rfl rfl (Nat.le_of_ble_eq_true rfl) ⟨Nat.le_of_ble_eq_true rfl, Nat.le_of_ble_eq_true rfl, Bd.c1 hb ea_48, Bd.s1 hb eb_49⟩ dX1_setMeaning_20 rb_xX (rb_kX (rb_w (kc := (((((0 + 1) + k_9) + k_21) + k_33) + k_45)) (ks := (((((0 + 4) + s_10) + s_22) + s_34) + s_46)) rfl rfl ?_))
  have hb := Bd.ade hb ea_48 eb_49
  obtain ⟨u_52, e_53, hf⟩ := rb_bd hf
  obtain ⟨⟨r_55, h_56, k_57, s_58⟩, e_59, hf⟩ := rb_bd hf
  obtain ⟨a_62, b_63, hf, ea_60, eb_61⟩ := ad_at hf
  refine rb_callV (As := []) (rest := [.ref (eS Ev RX1 207), .ref o]) C mi_J1_toString sv_X1_78 (hp_k_isC C.pf e_53 ck_J1) (ct_J1_toString Ev h_44 (((((n + 1) + k_9) + k_21) + k_33) + k_45) r_43 r_55 _ _ _ e_59) rfl rfl (Nat.le_of_ble_eq_true rfl) ⟨Nat.le_of_ble_eq_true rfl, Nat.le_of_ble_eq_true rfl, Bd.c1 hb ea_60, Bd.s1 hb eb_61⟩ dX1_setMeaning_23 rb_xX (rb_kX (rb_w (kc := ((((((0 + 1) + k_9) + k_21) + k_33) + k_45) + k_57)) (ks := ((((((0 + 4) + s_10) + s_22) + s_34) + s_46) + s_58)) rfl rfl ?_))
  have hb := Bd.ade hb ea_60 eb_61
  refine rb_iconst (v := 0) C dX1_setMeaning_26 rfl ?_
  obtain ⟨u_64, e_65, hf⟩ := rb_bd hf
  obtain ⟨⟨r_67, h_68, k_69, s_70⟩, e_71, hf⟩ := rb_bd hf
  obtain ⟨a_74, b_75, hf, ea_72, eb_73⟩ := ad_at hf
  rcases r_67 with v_76 | ⟨E_77, q_78⟩
  · dsimp only at hf
    refine rb_callVX (As := [.ref (eS Ev RX1 207), .ref r_55, .int 0]) (rest := []) C mi_X1_commit sv_X1_174 (hp_k_isC C.pf e_65 ck_X1) (ct_X1_commit Ev h_56 ((((((n + 1) + k_9) + k_21) + k_33) + k_45) + k_57) o (eS Ev RX1 207) r_55 0 (.inl v_76) _ _ _ e_71) rfl rfl (Nat.le_of_ble_eq_true rfl) ⟨Nat.le_of_ble_eq_true rfl, Nat.le_of_ble_eq_true rfl, Bd.c1 hb ea_72, Bd.s1 hb eb_73⟩ dX1_setMeaning_27 rb_xX (rb_kX (r := some (.int v_76)) (rb_w (kc := (((((((0 + 1) + k_9) + k_21) + k_33) + k_45) + k_57) + k_69)) (ks := (((((((0 + 4) + s_10) + s_22) + s_34) + s_46) + s_58) + s_70)) rfl rfl ?_))
    have hb := Bd.ade hb ea_72 eb_73
    refine rb_i2c (v := (v_76.toUInt32 % 65536).toInt32) C dX1_setMeaning_30 rfl ?_
    have hc_79 : narrow .char (.int (v_76.toUInt32 % 65536).toInt32) = .int (v_76.toUInt32 % 65536).toInt32 := pk_nc v_76
    cases hf
    exact rb_iret C rfl hc_79 hb.e.2.1 hb.e.2.2 dX1_setMeaning_31 ⟨rfl, rfl, hb.e.1⟩
  · dsimp only at hf
    by_cases c_80 : E_77 = "java/lang/IllegalArgumentException"
    · have hf := (if_pos c_80).symm.trans hf
      subst c_80
      refine rb_callVX (As := [.ref (eS Ev RX1 207), .ref r_55, .int 0]) (rest := []) C mi_X1_commit sv_X1_174 (hp_k_isC C.pf e_65 ck_X1) (ct_X1_commit Ev h_56 ((((((n + 1) + k_9) + k_21) + k_33) + k_45) + k_57) o (eS Ev RX1 207) r_55 0 (.inr ("java/lang/IllegalArgumentException", q_78)) _ _ _ e_71) rfl rfl (Nat.le_of_ble_eq_true rfl) ⟨Nat.le_of_ble_eq_true rfl, Nat.le_of_ble_eq_true rfl, Bd.c1 hb ea_72, Bd.s1 hb eb_73⟩ dX1_setMeaning_27 (rb_xY (E := "java/lang/IllegalArgumentException") (rb_wX (kc := (((((((0 + 1) + k_9) + k_21) + k_33) + k_45) + k_57) + k_69)) (ks := (((((((0 + 4) + s_10) + s_22) + s_34) + s_46) + s_58) + s_70)) rfl rfl ?_)) rb_kY
      have hb := Bd.ade hb ea_72 eb_73
      cases hf
      exact rb_out C (fun _ z => absurd z List.not_mem_nil) hb.e.2.1 hb.e.2.2 ⟨rfl, rfl, hb.e.1⟩
    have hf := (if_neg c_80).symm.trans hf
    by_cases c_81 : E_77 = "java/lang/IndexOutOfBoundsException"
    · have hf := (if_pos c_81).symm.trans hf
      subst c_81
      refine rb_callVX (As := [.ref (eS Ev RX1 207), .ref r_55, .int 0]) (rest := []) C mi_X1_commit sv_X1_174 (hp_k_isC C.pf e_65 ck_X1) (ct_X1_commit Ev h_56 ((((((n + 1) + k_9) + k_21) + k_33) + k_45) + k_57) o (eS Ev RX1 207) r_55 0 (.inr ("java/lang/IndexOutOfBoundsException", q_78)) _ _ _ e_71) rfl rfl (Nat.le_of_ble_eq_true rfl) ⟨Nat.le_of_ble_eq_true rfl, Nat.le_of_ble_eq_true rfl, Bd.c1 hb ea_72, Bd.s1 hb eb_73⟩ dX1_setMeaning_27 (rb_xY (E := "java/lang/IndexOutOfBoundsException") (rb_wX (kc := (((((((0 + 1) + k_9) + k_21) + k_33) + k_45) + k_57) + k_69)) (ks := (((((((0 + 4) + s_10) + s_22) + s_34) + s_46) + s_58) + s_70)) rfl rfl ?_)) rb_kY
      have hb := Bd.ade hb ea_72 eb_73
      cases hf
      exact rb_out C (fun _ z => absurd z List.not_mem_nil) hb.e.2.1 hb.e.2.2 ⟨rfl, rfl, hb.e.1⟩
    have hf := (if_neg c_81).symm.trans hf
    by_cases c_82 : E_77 = "java/lang/UnsupportedOperationException"
    · have hf := (if_pos c_82).symm.trans hf
      subst c_82
      refine rb_callVX (As := [.ref (eS Ev RX1 207), .ref r_55, .int 0]) (rest := []) C mi_X1_commit sv_X1_174 (hp_k_isC C.pf e_65 ck_X1) (ct_X1_commit Ev h_56 ((((((n + 1) + k_9) + k_21) + k_33) + k_45) + k_57) o (eS Ev RX1 207) r_55 0 (.inr ("java/lang/UnsupportedOperationException", q_78)) _ _ _ e_71) rfl rfl (Nat.le_of_ble_eq_true rfl) ⟨Nat.le_of_ble_eq_true rfl, Nat.le_of_ble_eq_true rfl, Bd.c1 hb ea_72, Bd.s1 hb eb_73⟩ dX1_setMeaning_27 (rb_xY (E := "java/lang/UnsupportedOperationException") (rb_wX (kc := (((((((0 + 1) + k_9) + k_21) + k_33) + k_45) + k_57) + k_69)) (ks := (((((((0 + 4) + s_10) + s_22) + s_34) + s_46) + s_58) + s_70)) rfl rfl ?_)) rb_kY
      have hb := Bd.ade hb ea_72 eb_73
      cases hf
      exact rb_out C (fun _ z => absurd z List.not_mem_nil) hb.e.2.1 hb.e.2.2 ⟨rfl, rfl, hb.e.1⟩
    have hf := (if_neg c_82).symm.trans hf
    cases hf
def f_X1_turnStorm (Ev : rb_E) (h : AH) (n : Nat) (o : Nat) (x1 : Int32) : Option ((Int32 ⊕ (String × Nat)) × AH × Nat × Nat) := ((hp_k Ev h o 0).bind fun u_1 => ((f_X1_commit Ev h n o (eS Ev RX1 209) (eS Ev RX1 93) x1).bind fun (r_4, h_5, k_6, s_7) => (ad k_6 s_7 (match r_4 with | .inl v_13 => (some (.inl v_13, h_5, 0, 0)) | .inr (E_14, q_15) => (if E_14 = "java/lang/IllegalArgumentException" then (some (.inr ("java/lang/IllegalArgumentException", q_15), h_5, 0, 0)) else (if E_14 = "java/lang/IndexOutOfBoundsException" then (some (.inr ("java/lang/IndexOutOfBoundsException", q_15), h_5, 0, 0)) else (if E_14 = "java/lang/UnsupportedOperationException" then (some (.inr ("java/lang/UnsupportedOperationException", q_15), h_5, 0, 0)) else none)))))))
abbrev rm_X1_turnStorm (k s : Nat) : Room := { frames := 77, cells := k, slots := s, locals := 2916 }
set_option maxHeartbeats 4000000 in
theorem ct_X1_turnStorm (Ev : rb_E) (h : AH) (n : Nat) (o : Nat) (x1 : Int32) (r : Int32 ⊕ (String × Nat)) (h' : AH) (k s : Nat) (hf : f_X1_turnStorm Ev h n o x1 = some (r, h', k, s)) : Ct Ev yX1_turnStorm (ws_ yX1_turnStorm cX1_turnStorm 2 (some .int)) (rm_X1_turnStorm k s) [.ref o, .int x1] h n (pX (rMap (fun v => some (.int v)) r) h' (n + k)) := by
  rw [f_X1_turnStorm] at hf
  refine Ct.of rfl (Nat.le_of_ble_eq_true rfl) fun X C hnm => ?_
  have C : Cx Ev X RX1 cX1_turnStorm 2 (some .int) [] := C
  show Wa Ev X (rm_X1_turnStorm k s) 2 h n 0 0 (rb_MQ Ev X (rm_X1_turnStorm k s) (pX (rMap (fun v => some (.int v)) r) h' (n + k))) 0 [(0, .ref o), (1, .int x1)] []
  have hb : Bd (n + k) k s n 0 0 k s := ⟨rfl, Nat.le_of_eq (Nat.zero_add _), Nat.le_of_eq (Nat.zero_add _)⟩
  refine rb_aload_n C dX1_turnStorm_0 rfl 0 rfl ?_
  refine rb_ldcS C q1449 dX1_turnStorm_1 ?_
  refine rb_ldcS C q227 dX1_turnStorm_3 ?_
  refine rb_iload_n C dX1_turnStorm_5 rfl 1 rfl ?_
  obtain ⟨u_1, e_2, hf⟩ := rb_bd hf
  obtain ⟨⟨r_4, h_5, k_6, s_7⟩, e_8, hf⟩ := rb_bd hf
  obtain ⟨a_11, b_12, hf, ea_9, eb_10⟩ := ad_at hf
  rcases r_4 with v_13 | ⟨E_14, q_15⟩
  · dsimp only at hf
    refine rb_callVX (As := [.ref (eS Ev RX1 209), .ref (eS Ev RX1 93), .int x1]) (rest := []) C mi_X1_commit sv_X1_174 (hp_k_isC C.pf e_2 ck_X1) (ct_X1_commit Ev h n o (eS Ev RX1 209) (eS Ev RX1 93) x1 (.inl v_13) _ _ _ e_8) rfl rfl (Nat.le_of_ble_eq_true rfl) ⟨Nat.le_of_ble_eq_true rfl, Nat.le_of_ble_eq_true rfl, Bd.c1 hb ea_9, Bd.s1 hb eb_10⟩ dX1_turnStorm_6 rb_xX (rb_kX (r := some (.int v_13)) (rb_w (kc := (0 + k_6)) (ks := (0 + s_7)) rfl rfl ?_))
    have hb := Bd.ade hb ea_9 eb_10
    cases hf
    exact rb_iret C rfl rfl hb.e.2.1 hb.e.2.2 dX1_turnStorm_9 ⟨rfl, rfl, hb.e.1⟩
  · dsimp only at hf
    by_cases c_16 : E_14 = "java/lang/IllegalArgumentException"
    · have hf := (if_pos c_16).symm.trans hf
      subst c_16
      refine rb_callVX (As := [.ref (eS Ev RX1 209), .ref (eS Ev RX1 93), .int x1]) (rest := []) C mi_X1_commit sv_X1_174 (hp_k_isC C.pf e_2 ck_X1) (ct_X1_commit Ev h n o (eS Ev RX1 209) (eS Ev RX1 93) x1 (.inr ("java/lang/IllegalArgumentException", q_15)) _ _ _ e_8) rfl rfl (Nat.le_of_ble_eq_true rfl) ⟨Nat.le_of_ble_eq_true rfl, Nat.le_of_ble_eq_true rfl, Bd.c1 hb ea_9, Bd.s1 hb eb_10⟩ dX1_turnStorm_6 (rb_xY (E := "java/lang/IllegalArgumentException") (rb_wX (kc := (0 + k_6)) (ks := (0 + s_7)) rfl rfl ?_)) rb_kY
      have hb := Bd.ade hb ea_9 eb_10
      cases hf
      exact rb_out C (fun _ z => absurd z List.not_mem_nil) hb.e.2.1 hb.e.2.2 ⟨rfl, rfl, hb.e.1⟩
    have hf := (if_neg c_16).symm.trans hf
    by_cases c_17 : E_14 = "java/lang/IndexOutOfBoundsException"
    · have hf := (if_pos c_17).symm.trans hf
      subst c_17
      refine rb_callVX (As := [.ref (eS Ev RX1 209), .ref (eS Ev RX1 93), .int x1]) (rest := []) C mi_X1_commit sv_X1_174 (hp_k_isC C.pf e_2 ck_X1) (ct_X1_commit Ev h n o (eS Ev RX1 209) (eS Ev RX1 93) x1 (.inr ("java/lang/IndexOutOfBoundsException", q_15)) _ _ _ e_8) rfl rfl (Nat.le_of_ble_eq_true rfl) ⟨Nat.le_of_ble_eq_true rfl, Nat.le_of_ble_eq_true rfl, Bd.c1 hb ea_9, Bd.s1 hb eb_10⟩ dX1_turnStorm_6 (rb_xY (E := "java/lang/IndexOutOfBoundsException") (rb_wX (kc := (0 + k_6)) (ks := (0 + s_7)) rfl rfl ?_)) rb_kY
      have hb := Bd.ade hb ea_9 eb_10
      cases hf
      exact rb_out C (fun _ z => absurd z List.not_mem_nil) hb.e.2.1 hb.e.2.2 ⟨rfl, rfl, hb.e.1⟩
    have hf := (if_neg c_17).symm.trans hf
    by_cases c_18 : E_14 = "java/lang/UnsupportedOperationException"
    · have hf := (if_pos c_18).symm.trans hf
      subst c_18
      refine rb_callVX (As := [.ref (eS Ev RX1 209), .ref (eS Ev RX1 93), .int x1]) (rest := []) C mi_X1_commit sv_X1_174 (hp_k_isC C.pf e_2 ck_X1) (ct_X1_commit Ev h n o (eS Ev RX1 209) (eS Ev RX1 93) x1 (.inr ("java/lang/UnsupportedOperationException", q_15)) _ _ _ e_8) rfl rfl (Nat.le_of_ble_eq_true rfl) ⟨Nat.le_of_ble_eq_true rfl, Nat.le_of_ble_eq_true rfl, Bd.c1 hb ea_9, Bd.s1 hb eb_10⟩ dX1_turnStorm_6 (rb_xY (E := "java/lang/UnsupportedOperationException") (rb_wX (kc := (0 + k_6)) (ks := (0 + s_7)) rfl rfl ?_)) rb_kY
      have hb := Bd.ade hb ea_9 eb_10
      cases hf
      exact rb_out C (fun _ z => absurd z List.not_mem_nil) hb.e.2.1 hb.e.2.2 ⟨rfl, rfl, hb.e.1⟩
    have hf := (if_neg c_18).symm.trans hf
    cases hf
def f_X1_colour (Ev : rb_E) (h : AH) (n : Nat) (o : Nat) (x1 : Int32) : Option ((Int32 ⊕ (String × Nat)) × AH × Nat × Nat) := ((hp_p Ev h o 0 0).bind fun v_1 => ((hp_k Ev h v_1 1).bind fun u_3 => ((f_X2_colourOf Ev h n v_1 x1).bind fun (r_6, h_7, k_8, s_9) => (ad k_8 s_9 (match r_6 with | .inl v_15 => (some (.inl v_15, h_7, 0, 0)) | .inr (E_16, q_17) => (if E_16 = "java/lang/IllegalArgumentException" then (some (.inr ("java/lang/IllegalArgumentException", q_17), h_7, 0, 0)) else none))))))
abbrev rm_X1_colour (k s : Nat) : Room := { frames := 9, cells := k, slots := s, locals := 202 }
set_option maxHeartbeats 4000000 in
theorem ct_X1_colour (Ev : rb_E) (h : AH) (n : Nat) (o : Nat) (x1 : Int32) (r : Int32 ⊕ (String × Nat)) (h' : AH) (k s : Nat) (hf : f_X1_colour Ev h n o x1 = some (r, h', k, s)) : Ct Ev yX1_colour (ws_ yX1_colour cX1_colour 2 (some .int)) (rm_X1_colour k s) [.ref o, .int x1] h n (pX (rMap (fun v => some (.int v)) r) h' (n + k)) := by
  rw [f_X1_colour] at hf
  refine Ct.of rfl (Nat.le_of_ble_eq_true rfl) fun X C hnm => ?_
  have C : Cx Ev X RX1 cX1_colour 2 (some .int) [] := C
  show Wa Ev X (rm_X1_colour k s) 2 h n 0 0 (rb_MQ Ev X (rm_X1_colour k s) (pX (rMap (fun v => some (.int v)) r) h' (n + k))) 0 [(0, .ref o), (1, .int x1)] []
  have hb : Bd (n + k) k s n 0 0 k s := ⟨rfl, Nat.le_of_eq (Nat.zero_add _), Nat.le_of_eq (Nat.zero_add _)⟩
  refine rb_aload_n C dX1_colour_0 rfl 0 rfl ?_
  obtain ⟨v_1, e_2, hf⟩ := rb_bd hf
  refine rb_hP C fl_X1_104_X1 e_2 dX1_colour_1 ?_
  refine rb_iload_n C dX1_colour_4 rfl 1 rfl ?_
  obtain ⟨u_3, e_4, hf⟩ := rb_bd hf
  obtain ⟨⟨r_6, h_7, k_8, s_9⟩, e_10, hf⟩ := rb_bd hf
  obtain ⟨a_13, b_14, hf, ea_11, eb_12⟩ := ad_at hf
  rcases r_6 with v_15 | ⟨E_16, q_17⟩
  · dsimp only at hf
    refine rb_callV (As := [.int x1]) (rest := []) C mi_X2_colourOf sv_X1_211 (hp_k_isC C.pf e_4 ck_X2) (ct_X2_colourOf Ev h n v_1 x1 (.inl v_15) _ _ _ e_10) rfl rfl (Nat.le_of_ble_eq_true rfl) ⟨Nat.le_of_ble_eq_true rfl, Nat.le_of_ble_eq_true rfl, Bd.c1 hb ea_11, Bd.s1 hb eb_12⟩ dX1_colour_5 rb_xX (rb_kX (r := some (.int v_15)) (rb_w (kc := (0 + k_8)) (ks := (0 + s_9)) rfl rfl ?_))
    have hb := Bd.ade hb ea_11 eb_12
    cases hf
    exact rb_iret C rfl rfl hb.e.2.1 hb.e.2.2 dX1_colour_8 ⟨rfl, rfl, hb.e.1⟩
  · dsimp only at hf
    by_cases c_18 : E_16 = "java/lang/IllegalArgumentException"
    · have hf := (if_pos c_18).symm.trans hf
      subst c_18
      refine rb_callV (As := [.int x1]) (rest := []) C mi_X2_colourOf sv_X1_211 (hp_k_isC C.pf e_4 ck_X2) (ct_X2_colourOf Ev h n v_1 x1 (.inr ("java/lang/IllegalArgumentException", q_17)) _ _ _ e_10) rfl rfl (Nat.le_of_ble_eq_true rfl) ⟨Nat.le_of_ble_eq_true rfl, Nat.le_of_ble_eq_true rfl, Bd.c1 hb ea_11, Bd.s1 hb eb_12⟩ dX1_colour_5 (rb_xY (E := "java/lang/IllegalArgumentException") (rb_wX (kc := (0 + k_8)) (ks := (0 + s_9)) rfl rfl ?_)) rb_kY
      have hb := Bd.ade hb ea_11 eb_12
      cases hf
      exact rb_out C (fun _ z => absurd z List.not_mem_nil) hb.e.2.1 hb.e.2.2 ⟨rfl, rfl, hb.e.1⟩
    have hf := (if_neg c_18).symm.trans hf
    cases hf
def f_X1_meaning (Ev : rb_E) (h : AH) (n : Nat) (o : Nat) (x1 : Int32) : Option ((Int32 ⊕ (String × Nat)) × AH × Nat × Nat) := ((hp_p Ev h o 0 0).bind fun v_1 => ((hp_k Ev h v_1 1).bind fun u_3 => ((f_X2_meaningOf Ev h n v_1 x1).bind fun (r_6, h_7, k_8, s_9) => (ad k_8 s_9 (match r_6 with | .inl v_15 => ((hp_en Ev v_15).bind fun k_18 => ((f_X3_sign Ev h_7 v_15).bind fun v_21 => (some (.inl v_21, h_7, 0, 0)))) | .inr (E_16, q_17) => (if E_16 = "java/lang/IllegalArgumentException" then (some (.inr ("java/lang/IllegalArgumentException", q_17), h_7, 0, 0)) else none))))))
abbrev rm_X1_meaning (k s : Nat) : Room := { frames := 9, cells := k, slots := s, locals := 202 }
set_option maxHeartbeats 4000000 in
theorem ct_X1_meaning (Ev : rb_E) (h : AH) (n : Nat) (o : Nat) (x1 : Int32) (r : Int32 ⊕ (String × Nat)) (h' : AH) (k s : Nat) (hf : f_X1_meaning Ev h n o x1 = some (r, h', k, s)) : Ct Ev yX1_meaning (ws_ yX1_meaning cX1_meaning 2 (some .char)) (rm_X1_meaning k s) [.ref o, .int x1] h n (pX (rMap (fun v => some (.int v)) r) h' (n + k)) := by
  rw [f_X1_meaning] at hf
  refine Ct.of rfl (Nat.le_of_ble_eq_true rfl) fun X C hnm => ?_
  have C : Cx Ev X RX1 cX1_meaning 2 (some .char) [] := C
  show Wa Ev X (rm_X1_meaning k s) 2 h n 0 0 (rb_MQ Ev X (rm_X1_meaning k s) (pX (rMap (fun v => some (.int v)) r) h' (n + k))) 0 [(0, .ref o), (1, .int x1)] []
  have hb : Bd (n + k) k s n 0 0 k s := ⟨rfl, Nat.le_of_eq (Nat.zero_add _), Nat.le_of_eq (Nat.zero_add _)⟩
  refine rb_aload_n C dX1_meaning_0 rfl 0 rfl ?_
  obtain ⟨v_1, e_2, hf⟩ := rb_bd hf
  refine rb_hP C fl_X1_104_X1 e_2 dX1_meaning_1 ?_
  refine rb_iload_n C dX1_meaning_4 rfl 1 rfl ?_
  obtain ⟨u_3, e_4, hf⟩ := rb_bd hf
  obtain ⟨⟨r_6, h_7, k_8, s_9⟩, e_10, hf⟩ := rb_bd hf
  obtain ⟨a_13, b_14, hf, ea_11, eb_12⟩ := ad_at hf
  rcases r_6 with v_15 | ⟨E_16, q_17⟩
  · dsimp only at hf
    refine rb_callV (As := [.int x1]) (rest := []) C mi_X2_meaningOf sv_X1_215 (hp_k_isC C.pf e_4 ck_X2) (ct_X2_meaningOf Ev h n v_1 x1 (.inl v_15) _ _ _ e_10) rfl rfl (Nat.le_of_ble_eq_true rfl) ⟨Nat.le_of_ble_eq_true rfl, Nat.le_of_ble_eq_true rfl, Bd.c1 hb ea_11, Bd.s1 hb eb_12⟩ dX1_meaning_5 rb_xX (rb_kX (r := some (.ref v_15)) (rb_w (kc := (0 + k_8)) (ks := (0 + s_9)) rfl rfl ?_))
    have hb := Bd.ade hb ea_11 eb_12
    obtain ⟨k_18, e_19, hf⟩ := rb_bd hf
    obtain ⟨v_21, e_22, hf⟩ := rb_bd hf
    refine rb_callU (As := []) (rest := []) C mi_X3_sign (eu_X1_219 _ (hp_en_at e_19).1) (hp_en_isC e_19) (ct_X3_sign Ev h_7 (n + k_8) v_15 _ e_22) rfl rfl (Nat.le_of_ble_eq_true rfl) ⟨Nat.le_of_ble_eq_true rfl, Nat.le_of_ble_eq_true rfl, hb.c0, hb.s0⟩ dX1_meaning_8 rb_xXi (rb_kXi fun hn_20 => (rb_w (kc := (0 + k_8)) (ks := (0 + s_9)) rfl rfl ?_))
    cases hf
    exact rb_iret C rfl hn_20 hb.e.2.1 hb.e.2.2 dX1_meaning_11 ⟨rfl, rfl, hb.e.1⟩
  · dsimp only at hf
    by_cases c_23 : E_16 = "java/lang/IllegalArgumentException"
    · have hf := (if_pos c_23).symm.trans hf
      subst c_23
      refine rb_callV (As := [.int x1]) (rest := []) C mi_X2_meaningOf sv_X1_215 (hp_k_isC C.pf e_4 ck_X2) (ct_X2_meaningOf Ev h n v_1 x1 (.inr ("java/lang/IllegalArgumentException", q_17)) _ _ _ e_10) rfl rfl (Nat.le_of_ble_eq_true rfl) ⟨Nat.le_of_ble_eq_true rfl, Nat.le_of_ble_eq_true rfl, Bd.c1 hb ea_11, Bd.s1 hb eb_12⟩ dX1_meaning_5 (rb_xY (E := "java/lang/IllegalArgumentException") (rb_wX (kc := (0 + k_8)) (ks := (0 + s_9)) rfl rfl ?_)) rb_kY
      have hb := Bd.ade hb ea_11 eb_12
      cases hf
      exact rb_out C (fun _ z => absurd z List.not_mem_nil) hb.e.2.1 hb.e.2.2 ⟨rfl, rfl, hb.e.1⟩
    have hf := (if_neg c_23).symm.trans hf
    cases hf
def f_X1_isToTheRight (Ev : rb_E) (h : AH) (n : Nat) (o : Nat) (x1 : Int32) : Option ((Int32 ⊕ (String × Nat)) × AH × Nat × Nat) := ((f_X1_requireIndex Ev h n x1 7).bind fun (r_2, h_3, k_4, s_5) => (ad k_4 s_5 (match r_2 with | .inl v_11 => ((hp_p Ev h_3 o 0 0).bind fun v_14 => ((hp_p Ev h_3 v_14 1 3).bind fun v_16 => ((hp_zl Ev h_3 v_16 x1).bind fun v_18 => (if narrow .boolean (.int v_18) = .int v_18 then (some (.inl v_18, h_3, 0, 0)) else none)))) | .inr (E_12, q_13) => (if E_12 = "java/lang/IndexOutOfBoundsException" then (some (.inr ("java/lang/IndexOutOfBoundsException", q_13), h_3, 0, 0)) else none))))
abbrev rm_X1_isToTheRight (k s : Nat) : Room := { frames := 7, cells := k, slots := s, locals := 110 }
set_option maxHeartbeats 4000000 in
theorem ct_X1_isToTheRight (Ev : rb_E) (h : AH) (n : Nat) (o : Nat) (x1 : Int32) (r : Int32 ⊕ (String × Nat)) (h' : AH) (k s : Nat) (hf : f_X1_isToTheRight Ev h n o x1 = some (r, h', k, s)) : Ct Ev yX1_isToTheRight (ws_ yX1_isToTheRight cX1_isToTheRight 2 (some .boolean)) (rm_X1_isToTheRight k s) [.ref o, .int x1] h n (pX (rMap (fun v => some (.int v)) r) h' (n + k)) := by
  rw [f_X1_isToTheRight] at hf
  refine Ct.of rfl (Nat.le_of_ble_eq_true rfl) fun X C hnm => ?_
  have C : Cx Ev X RX1 cX1_isToTheRight 2 (some .boolean) [] := C
  show Wa Ev X (rm_X1_isToTheRight k s) 2 h n 0 0 (rb_MQ Ev X (rm_X1_isToTheRight k s) (pX (rMap (fun v => some (.int v)) r) h' (n + k))) 0 [(0, .ref o), (1, .int x1)] []
  have hb : Bd (n + k) k s n 0 0 k s := ⟨rfl, Nat.le_of_eq (Nat.zero_add _), Nat.le_of_eq (Nat.zero_add _)⟩
  refine rb_iload_n C dX1_isToTheRight_0 rfl 1 rfl ?_
  refine rb_bipush (v := 7) C dX1_isToTheRight_1 rfl ?_
  obtain ⟨⟨r_2, h_3, k_4, s_5⟩, e_6, hf⟩ := rb_bd hf
  obtain ⟨a_9, b_10, hf, ea_7, eb_8⟩ := ad_at hf
  rcases r_2 with v_11 | ⟨E_12, q_13⟩
  · dsimp only at hf
    refine rb_callS (As := [.int x1, .int 7]) (rest := []) C mi_X1_requireIndex ss_X1_189 (ct_X1_requireIndex Ev h n x1 7 (.inl v_11) _ _ _ e_6) rfl rfl (Nat.le_of_ble_eq_true rfl) ⟨Nat.le_of_ble_eq_true rfl, Nat.le_of_ble_eq_true rfl, Bd.c1 hb ea_7, Bd.s1 hb eb_8⟩ dX1_isToTheRight_3 rb_xX (rb_kX (r := none) (rb_w (kc := (0 + k_4)) (ks := (0 + s_5)) rfl rfl ?_))
    have hb := Bd.ade hb ea_7 eb_8
    refine rb_aload_n C dX1_isToTheRight_6 rfl 0 rfl ?_
    obtain ⟨v_14, e_15, hf⟩ := rb_bd hf
    refine rb_hP C fl_X1_104_X1 e_15 dX1_isToTheRight_7 ?_
    obtain ⟨v_16, e_17, hf⟩ := rb_bd hf
    refine rb_hP C fl_X1_224_X2 e_17 dX1_isToTheRight_10 ?_
    refine rb_iload_n C dX1_isToTheRight_13 rfl 1 rfl ?_
    obtain ⟨v_18, e_19, hf⟩ := rb_bd hf
    refine rb_hzl C e_19 dX1_isToTheRight_14 ?_
    by_cases c_g_20 : narrow .boolean (.int v_18) = .int v_18
    rotate_left
    · exact absurd ((if_neg c_g_20).symm.trans hf) (fun z => by cases z)
    have hf := (if_pos c_g_20).symm.trans hf
    cases hf
    exact rb_iret C rfl c_g_20 hb.e.2.1 hb.e.2.2 dX1_isToTheRight_15 ⟨rfl, rfl, hb.e.1⟩
  · dsimp only at hf
    by_cases c_21 : E_12 = "java/lang/IndexOutOfBoundsException"
    · have hf := (if_pos c_21).symm.trans hf
      subst c_21
      refine rb_callS (As := [.int x1, .int 7]) (rest := []) C mi_X1_requireIndex ss_X1_189 (ct_X1_requireIndex Ev h n x1 7 (.inr ("java/lang/IndexOutOfBoundsException", q_13)) _ _ _ e_6) rfl rfl (Nat.le_of_ble_eq_true rfl) ⟨Nat.le_of_ble_eq_true rfl, Nat.le_of_ble_eq_true rfl, Bd.c1 hb ea_7, Bd.s1 hb eb_8⟩ dX1_isToTheRight_3 (rb_xY (E := "java/lang/IndexOutOfBoundsException") (rb_wX (kc := (0 + k_4)) (ks := (0 + s_5)) rfl rfl ?_)) rb_kY
      have hb := Bd.ade hb ea_7 eb_8
      cases hf
      exact rb_out C (fun _ z => absurd z List.not_mem_nil) hb.e.2.1 hb.e.2.2 ⟨rfl, rfl, hb.e.1⟩
    have hf := (if_neg c_21).symm.trans hf
    cases hf
def f_X1_operatorByColour_j88_56 (Ev : rb_E) (n : Nat) (k_10 : Nat) (y4_l33_42 : Int32) (rec_l33_42 : Int32 → AH → Nat → Option ((Int32 ⊕ (String × Nat)) × AH × Nat × Nat)) (w0_j88_56 : Nat) (h_j88_56 : AH) (n_j88_56 : Nat) : Option ((Int32 ⊕ (String × Nat)) × AH × Nat × Nat) := ((hp_k Ev h_j88_56 (n + k_10) 13).bind fun u_57 => ((f_J1_append_3 Ev h_j88_56 n_j88_56 (n + k_10) w0_j88_56).bind fun (r_60, h_61, k_62, s_63) => (ad k_62 s_63 (rec_l33_42 (y4_l33_42 + 1) h_61 (n_j88_56 + k_62)))))
def f_X1_operatorByColour_l33_42 (Ev : rb_E) (o : Nat) (n : Nat) (k_10 : Nat) (y3_l26_35 : Int32) (rec_l26_35 : Int32 → AH → Nat → Option ((Int32 ⊕ (String × Nat)) × AH × Nat × Nat)) : Nat → Int32 → AH → Nat → Option ((Int32 ⊕ (String × Nat)) × AH × Nat × Nat)
  | 0, _, _, _ => none
  | k_l33_42 + 1, y4_l33_42, h_l33_42, n_l33_42 => ((hp_k Ev h_l33_42 (eS Ev RX1 32) 14).bind fun u_43 => ((f_J2_length Ev h_l33_42 (eS Ev RX1 32)).bind fun v_46 => (if v_46 ≤ y4_l33_42 then (rec_l26_35 (y3_l26_35 + (-1)) h_l33_42 n_l33_42) else ((hp_p Ev h_l33_42 o 0 0).bind fun v_49 => ((hp_p Ev h_l33_42 v_49 1 1).bind fun v_51 => ((hp_il Ev h_l33_42 v_51 y4_l33_42).bind fun v_53 => (if v_53 = y3_l26_35 then (ad 1 4 (rb_lt (va_up h_l33_42 n_l33_42 (some (.inr (13, [.null, .int 0, .int 0, .int 0])))) fun h_73 => ((f_J1_init Ev h_73 (n_l33_42 + 1) n_l33_42).bind fun (r_75, h_76, k_77, s_78) => (ad k_77 s_78 ((hp_k Ev h_76 n_l33_42 13).bind fun u_84 => ((f_J1_append_3 Ev h_76 ((n_l33_42 + 1) + k_77) n_l33_42 (eS Ev RX1 93)).bind fun (r_87, h_88, k_89, s_90) => (ad k_89 s_90 ((hp_k Ev h_88 (eS Ev RX1 32) 14).bind fun u_96 => ((f_J2_charAt Ev h_88 (eS Ev RX1 32) y4_l33_42).bind fun v_99 => ((hp_k Ev h_88 r_87 13).bind fun u_101 => ((f_J1_append_7 Ev h_88 (((n_l33_42 + 1) + k_77) + k_89) r_87 v_99).bind fun (r_104, h_105, k_106, s_107) => (ad k_106 s_107 ((hp_k Ev h_105 r_104 13).bind fun u_113 => ((f_J1_toString Ev h_105 ((((n_l33_42 + 1) + k_77) + k_89) + k_106) r_104).bind fun (r_116, h_117, k_118, s_119) => (ad k_118 s_119 (f_X1_operatorByColour_j88_56 Ev n k_10 y4_l33_42 (f_X1_operatorByColour_l33_42 Ev o n k_10 y3_l26_35 rec_l26_35 k_l33_42) r_116 h_117 (((((n_l33_42 + 1) + k_77) + k_89) + k_106) + k_118))))))))))))))))) else (f_X1_operatorByColour_j88_56 Ev n k_10 y4_l33_42 (f_X1_operatorByColour_l33_42 Ev o n k_10 y3_l26_35 rec_l26_35 k_l33_42) (eS Ev RX1 93) h_l33_42 n_l33_42))))))))
def f_X1_operatorByColour_l26_35 (Ev : rb_E) (o : Nat) (x1 : Int32) (n : Nat) (k_10 : Nat) : Nat → Int32 → AH → Nat → Option ((Int32 ⊕ (String × Nat)) × AH × Nat × Nat)
  | 0, _, _, _ => none
  | k_l26_35 + 1, y3_l26_35, h_l26_35, n_l26_35 => (if y3_l26_35 < 0 then ((hp_k Ev h_l26_35 (n + k_10) 13).bind fun u_37 => ((f_J1_charAt Ev h_l26_35 (n + k_10) x1).bind fun v_40 => (some (.inl v_40, h_l26_35, 0, 0)))) else (f_X1_operatorByColour_l33_42 Ev o n k_10 y3_l26_35 (f_X1_operatorByColour_l26_35 Ev o x1 n k_10 k_l26_35) 4096 0 h_l26_35 n_l26_35))
def f_X1_operatorByColour (Ev : rb_E) (h : AH) (n : Nat) (o : Nat) (x1 : Int32) : Option ((Int32 ⊕ (String × Nat)) × AH × Nat × Nat) := ((hp_k Ev h (eS Ev RX1 32) 14).bind fun u_1 => ((f_J2_length Ev h (eS Ev RX1 32)).bind fun v_4 => ((f_X1_requireElement Ev h n (f_X1_inRange x1 0 (v_4 - 1))).bind fun (r_8, h_9, k_10, s_11) => (ad k_10 s_11 (match r_8 with | .inl v_17 => (ad 1 4 (rb_lt (va_up h_9 (n + k_10) (some (.inr (13, [.null, .int 0, .int 0, .int 0])))) fun h_24 => ((f_J1_init Ev h_24 ((n + k_10) + 1) (n + k_10)).bind fun (r_26, h_27, k_28, s_29) => (ad k_28 s_29 (f_X1_operatorByColour_l26_35 Ev o x1 n k_10 4096 6 h_27 (((n + k_10) + 1) + k_28)))))) | .inr (E_18, q_19) => (if E_18 = "java/util/NoSuchElementException" then (some (.inr ("java/util/NoSuchElementException", q_19), h_9, 0, 0)) else none))))))
abbrev rm_X1_operatorByColour (k s : Nat) : Room := { frames := 10, cells := k, slots := s, locals := 223 }
set_option maxHeartbeats 4000000 in
theorem ct_X1_operatorByColour (Ev : rb_E) (h : AH) (n : Nat) (o : Nat) (x1 : Int32) (r : Int32 ⊕ (String × Nat)) (h' : AH) (k s : Nat) (hf : f_X1_operatorByColour Ev h n o x1 = some (r, h', k, s)) : Ct Ev yX1_operatorByColour (ws_ yX1_operatorByColour cX1_operatorByColour 5 (some .char)) (rm_X1_operatorByColour k s) [.ref o, .int x1] h n (pX (rMap (fun v => some (.int v)) r) h' (n + k)) := by
  rw [f_X1_operatorByColour] at hf
  refine Ct.of rfl (Nat.le_of_ble_eq_true rfl) fun X C hnm => ?_
  have C : Cx Ev X RX1 cX1_operatorByColour 5 (some .char) [] := C
  show Wa Ev X (rm_X1_operatorByColour k s) 5 h n 0 0 (rb_MQ Ev X (rm_X1_operatorByColour k s) (pX (rMap (fun v => some (.int v)) r) h' (n + k))) 0 [(0, .ref o), (1, .int x1)] []
  have hb : Bd (n + k) k s n 0 0 k s := ⟨rfl, Nat.le_of_eq (Nat.zero_add _), Nat.le_of_eq (Nat.zero_add _)⟩
  refine rb_iload_n C dX1_operatorByColour_0 rfl 1 rfl ?_
  refine rb_iconst (v := 0) C dX1_operatorByColour_1 rfl ?_
  refine rb_ldcS C q1063 dX1_operatorByColour_2 ?_
  obtain ⟨u_1, e_2, hf⟩ := rb_bd hf
  obtain ⟨v_4, e_5, hf⟩ := rb_bd hf
  refine rb_callV (As := []) (rest := [.int 0, .int x1]) C mi_J2_length sv_X1_228 (hp_k_isC C.pf e_2 ck_J2) (ct_J2_length Ev h n (eS Ev RX1 32) _ e_5) rfl rfl (Nat.le_of_ble_eq_true rfl) ⟨Nat.le_of_ble_eq_true rfl, Nat.le_of_ble_eq_true rfl, hb.c0, hb.s0⟩ dX1_operatorByColour_4 rb_xXi (rb_kXi fun hn_3 => (rb_w (kc := 0) (ks := 0) rfl rfl ?_))
  refine rb_iconst (v := 1) C dX1_operatorByColour_7 rfl ?_
  refine rb_isub C dX1_operatorByColour_8 ?_
  refine rb_callS (As := [.int x1, .int 0, .int (v_4 - 1)]) (rest := []) C mi_X1_inRange ss_X1_7 (ct_X1_inRange Ev h n x1 0 (v_4 - 1) _ rfl) rfl rfl (Nat.le_of_ble_eq_true rfl) ⟨Nat.le_of_ble_eq_true rfl, Nat.le_of_ble_eq_true rfl, hb.c0, hb.s0⟩ dX1_operatorByColour_9 rb_xXi (rb_kXi fun hn_6 => (rb_w (kc := 0) (ks := 0) rfl rfl ?_))
  obtain ⟨⟨r_8, h_9, k_10, s_11⟩, e_12, hf⟩ := rb_bd hf
  obtain ⟨a_15, b_16, hf, ea_13, eb_14⟩ := ad_at hf
  rcases r_8 with v_17 | ⟨E_18, q_19⟩
  · dsimp only at hf
    refine rb_callS (As := [.int (f_X1_inRange x1 0 (v_4 - 1))]) (rest := []) C mi_X1_requireElement ss_X1_202 (ct_X1_requireElement Ev h n (f_X1_inRange x1 0 (v_4 - 1)) (.inl v_17) _ _ _ e_12) rfl rfl (Nat.le_of_ble_eq_true rfl) ⟨Nat.le_of_ble_eq_true rfl, Nat.le_of_ble_eq_true rfl, Bd.c1 hb ea_13, Bd.s1 hb eb_14⟩ dX1_operatorByColour_12 rb_xX (rb_kX (r := none) (rb_w (kc := (0 + k_10)) (ks := (0 + s_11)) rfl rfl ?_))
    have hb := Bd.ade hb ea_13 eb_14
    obtain ⟨a_22, b_23, hf, ea_20, eb_21⟩ := ad_at hf
    refine rb_hnew C ck_J1 q225 q132 q72 [.null, .int 0, .int 0, .int 0] rfl (Bd.c1 hb ea_20) (Bd.s1 hb eb_21) dX1_operatorByColour_15 ?_
    have hb := Bd.ade hb ea_20 eb_21
    obtain ⟨h_24, e_h_24⟩ : ∃ z, z = (va_up h_9 (n + k_10) (some (.inr (13, [.null, .int 0, .int 0, .int 0])))) := ⟨_, rfl⟩
    rw [← e_h_24]
    have hf := rb_let hf e_h_24
    refine rb_dup C dX1_operatorByColour_18 rfl ?_
    obtain ⟨⟨r_26, h_27, k_28, s_29⟩, e_30, hf⟩ := rb_bd hf
    obtain ⟨a_33, b_34, hf, ea_31, eb_32⟩ := ad_at hf
    refine rb_callI (As := []) (rest := [.ref (n + k_10)]) C mi_J1_init si_X1_65 (ct_J1_init Ev h_24 ((n + k_10) + 1) (n + k_10) r_26 _ _ _ e_30) rfl rfl (Nat.le_of_ble_eq_true rfl) ⟨Nat.le_of_ble_eq_true rfl, Nat.le_of_ble_eq_true rfl, Bd.c1 hb ea_31, Bd.s1 hb eb_32⟩ dX1_operatorByColour_19 rb_xX (rb_kX (rb_w (kc := (((0 + k_10) + 1) + k_28)) (ks := (((0 + s_11) + 4) + s_29)) rfl rfl ?_))
    have hb := Bd.ade hb ea_31 eb_32
    refine rb_astore_n (lv' := [(2, .ref (n + k_10)), (0, .ref o), (1, .int x1)]) C dX1_operatorByColour_22 rfl (by decide) rfl ?_
    refine rb_bipush (v := 6) C dX1_operatorByColour_23 rfl ?_
    refine rb_istore_n (lv' := [(3, .int 6), (2, .ref (n + k_10)), (0, .ref o), (1, .int x1)]) C dX1_operatorByColour_25 rfl (by decide) rfl ?_
    have L_l26_35 : ∀ (k_l26_35 : Nat) (y3_l26_35 : Int32) (h_l26_35 : AH) (n_l26_35 kc_l26_35 ks_l26_35 a_ b_ : Nat), f_X1_operatorByColour_l26_35 Ev o x1 n k_10 k_l26_35 y3_l26_35 h_l26_35 n_l26_35 = some (r, h', a_, b_) → Bd (n + k) k s n_l26_35 kc_l26_35 ks_l26_35 a_ b_ → Wa Ev X (rm_X1_operatorByColour k s) 5 h_l26_35 n_l26_35 kc_l26_35 ks_l26_35 (rb_MQ Ev X (rm_X1_operatorByColour k s) (pX (rMap (fun v => some (.int v)) r) h' (n + k))) 26 [(0, .ref o), (1, .int x1), (2, .ref (n + k_10)), (3, .int y3_l26_35)] [] := by
      intro k_l26_35
      induction k_l26_35 with
      | zero => intro y3_l26_35 h_l26_35 n_l26_35 kc_l26_35 ks_l26_35 a_ b_ hf hb; cases hf
      | succ k_l26_35 ih_l26_35 =>
        intro y3_l26_35 h_l26_35 n_l26_35 kc_l26_35 ks_l26_35 a_ b_ hf hb
        rw [f_X1_operatorByColour_l26_35] at hf
        refine rb_iload_n C dX1_operatorByColour_26 rfl 3 rfl ?_
        refine rb_if_lt (tgt := 104) C dX1_operatorByColour_27 (by decide) (fun c_36 => ?_) (fun c_36 => ?_)
        · have hf := (if_pos c_36).symm.trans hf
          refine rb_aload_n C dX1_operatorByColour_104 rfl 2 rfl ?_
          refine rb_iload_n C dX1_operatorByColour_105 rfl 1 rfl ?_
          obtain ⟨u_37, e_38, hf⟩ := rb_bd hf
          obtain ⟨v_40, e_41, hf⟩ := rb_bd hf
          refine rb_callV (As := [.int x1]) (rest := []) C mi_J1_charAt sv_X1_192 (hp_k_isC C.pf e_38 ck_J1) (ct_J1_charAt Ev h_l26_35 n_l26_35 (n + k_10) x1 _ e_41) rfl rfl (Nat.le_of_ble_eq_true rfl) ⟨Nat.le_of_ble_eq_true rfl, Nat.le_of_ble_eq_true rfl, hb.c0, hb.s0⟩ dX1_operatorByColour_106 rb_xXi (rb_kXi fun hn_39 => (rb_w (kc := kc_l26_35) (ks := ks_l26_35) rfl rfl ?_))
          cases hf
          exact rb_iret C rfl hn_39 hb.e.2.1 hb.e.2.2 dX1_operatorByColour_109 ⟨rfl, rfl, hb.e.1⟩
        · have hf := (if_neg c_36).symm.trans hf
          refine rb_iconst (v := 0) C dX1_operatorByColour_30 rfl ?_
          refine rb_istore (lv' := [(4, .int 0), (0, .ref o), (1, .int x1), (2, .ref (n + k_10)), (3, .int y3_l26_35)]) C dX1_operatorByColour_31 (by decide) rfl ?_
          have L_l33_42 : ∀ (k_l33_42 : Nat) (y4_l33_42 : Int32) (h_l33_42 : AH) (n_l33_42 kc_l33_42 ks_l33_42 a_ b_ : Nat), f_X1_operatorByColour_l33_42 Ev o n k_10 y3_l26_35 (f_X1_operatorByColour_l26_35 Ev o x1 n k_10 k_l26_35) k_l33_42 y4_l33_42 h_l33_42 n_l33_42 = some (r, h', a_, b_) → Bd (n + k) k s n_l33_42 kc_l33_42 ks_l33_42 a_ b_ → Wa Ev X (rm_X1_operatorByColour k s) 5 h_l33_42 n_l33_42 kc_l33_42 ks_l33_42 (rb_MQ Ev X (rm_X1_operatorByColour k s) (pX (rMap (fun v => some (.int v)) r) h' (n + k))) 33 [(0, .ref o), (1, .int x1), (2, .ref (n + k_10)), (3, .int y3_l26_35), (4, .int y4_l33_42)] [] := by
            intro k_l33_42
            induction k_l33_42 with
            | zero => intro y4_l33_42 h_l33_42 n_l33_42 kc_l33_42 ks_l33_42 a_ b_ hf hb; cases hf
            | succ k_l33_42 ih_l33_42 =>
              intro y4_l33_42 h_l33_42 n_l33_42 kc_l33_42 ks_l33_42 a_ b_ hf hb
              rw [f_X1_operatorByColour_l33_42] at hf
              refine rb_iload C dX1_operatorByColour_33 4 rfl ?_
              refine rb_ldcS C q1063 dX1_operatorByColour_35 ?_
              obtain ⟨u_43, e_44, hf⟩ := rb_bd hf
              obtain ⟨v_46, e_47, hf⟩ := rb_bd hf
              refine rb_callV (As := []) (rest := [.int y4_l33_42]) C mi_J2_length sv_X1_228 (hp_k_isC C.pf e_44 ck_J2) (ct_J2_length Ev h_l33_42 n_l33_42 (eS Ev RX1 32) _ e_47) rfl rfl (Nat.le_of_ble_eq_true rfl) ⟨Nat.le_of_ble_eq_true rfl, Nat.le_of_ble_eq_true rfl, hb.c0, hb.s0⟩ dX1_operatorByColour_37 rb_xXi (rb_kXi fun hn_45 => (rb_w (kc := kc_l33_42) (ks := ks_l33_42) rfl rfl ?_))
              refine rb_icmp_ge (tgt := 98) C dX1_operatorByColour_40 (by decide) (fun c_48 => ?_) (fun c_48 => ?_)
              · have hf := (if_pos c_48).symm.trans hf
                refine rb_iinc (v := (y3_l26_35 + (-1))) (lv' := [(3, .int (y3_l26_35 + (-1))), (0, .ref o), (1, .int x1), (2, .ref (n + k_10)), (4, .int y4_l33_42)]) C dX1_operatorByColour_98 (k := 3) rfl rfl (by decide) rfl ?_
                refine rb_goto (tgt := 26) C dX1_operatorByColour_101 (by decide) ?_
                refine rb_sub [1, 2, 3, 0] rfl ?_
                exact ih_l26_35 (y3_l26_35 + (-1)) h_l33_42 n_l33_42 _ _ _ _ hf hb
              · have hf := (if_neg c_48).symm.trans hf
                refine rb_aload_n C dX1_operatorByColour_43 rfl 2 rfl ?_
                refine rb_aload_n C dX1_operatorByColour_44 rfl 0 rfl ?_
                obtain ⟨v_49, e_50, hf⟩ := rb_bd hf
                refine rb_hP C fl_X1_104_X1 e_50 dX1_operatorByColour_45 ?_
                obtain ⟨v_51, e_52, hf⟩ := rb_bd hf
                refine rb_hP C fl_X1_229_X2 e_52 dX1_operatorByColour_48 ?_
                refine rb_iload C dX1_operatorByColour_51 4 rfl ?_
                obtain ⟨v_53, e_54, hf⟩ := rb_bd hf
                refine rb_hil C e_54 dX1_operatorByColour_53 ?_
                refine rb_iload_n C dX1_operatorByColour_54 rfl 3 rfl ?_
                have J_j88_56 : ∀ (w0_j88_56 : Nat) (h_j88_56 : AH) (n_j88_56 : Nat) (kc_j88_56 ks_j88_56 a_ b_ : Nat), f_X1_operatorByColour_j88_56 Ev n k_10 y4_l33_42 (f_X1_operatorByColour_l33_42 Ev o n k_10 y3_l26_35 (f_X1_operatorByColour_l26_35 Ev o x1 n k_10 k_l26_35) k_l33_42) w0_j88_56 h_j88_56 n_j88_56 = some (r, h', a_, b_) → Bd (n + k) k s n_j88_56 kc_j88_56 ks_j88_56 a_ b_ → Wa Ev X (rm_X1_operatorByColour k s) 5 h_j88_56 n_j88_56 kc_j88_56 ks_j88_56 (rb_MQ Ev X (rm_X1_operatorByColour k s) (pX (rMap (fun v => some (.int v)) r) h' (n + k))) 88 [(0, .ref o), (1, .int x1), (2, .ref (n + k_10)), (3, .int y3_l26_35), (4, .int y4_l33_42)] [.ref w0_j88_56, .ref (n + k_10)] := by
                  intro w0_j88_56 h_j88_56 n_j88_56 kc_j88_56 ks_j88_56 a_ b_ hf hb
                  rw [f_X1_operatorByColour_j88_56] at hf
                  obtain ⟨u_57, e_58, hf⟩ := rb_bd hf
                  obtain ⟨⟨r_60, h_61, k_62, s_63⟩, e_64, hf⟩ := rb_bd hf
                  obtain ⟨a_67, b_68, hf, ea_65, eb_66⟩ := ad_at hf
                  refine rb_callV (As := [.ref w0_j88_56]) (rest := []) C mi_J1_append_3 sv_X1_68 (hp_k_isC C.pf e_58 ck_J1) (ct_J1_append_3 Ev h_j88_56 n_j88_56 (n + k_10) w0_j88_56 r_60 _ _ _ e_64) rfl rfl (Nat.le_of_ble_eq_true rfl) ⟨Nat.le_of_ble_eq_true rfl, Nat.le_of_ble_eq_true rfl, Bd.c1 hb ea_65, Bd.s1 hb eb_66⟩ dX1_operatorByColour_88 rb_xX (rb_kX (rb_w (kc := (kc_j88_56 + k_62)) (ks := (ks_j88_56 + s_63)) rfl rfl ?_))
                  have hb := Bd.ade hb ea_65 eb_66
                  refine rb_pop C dX1_operatorByColour_91 rfl ?_
                  refine rb_iinc (v := (y4_l33_42 + 1)) (lv' := [(4, .int (y4_l33_42 + 1)), (0, .ref o), (1, .int x1), (2, .ref (n + k_10)), (3, .int y3_l26_35)]) C dX1_operatorByColour_92 (k := 4) rfl rfl (by decide) rfl ?_
                  refine rb_goto (tgt := 33) C dX1_operatorByColour_95 (by decide) ?_
                  refine rb_sub [1, 2, 3, 4, 0] rfl ?_
                  exact ih_l33_42 (y4_l33_42 + 1) h_61 (n_j88_56 + k_62) _ _ _ _ hf hb
                refine rb_icmp_ne (tgt := 86) C dX1_operatorByColour_55 (by decide) (fun c_55 => ?_) (fun c_55 => ?_)
                · have hf := (if_neg c_55).symm.trans hf
                  refine rb_ldcS C q227 dX1_operatorByColour_86 ?_
                  exact J_j88_56 (eS Ev RX1 93) h_l33_42 n_l33_42  _ _ _ _ hf hb
                · have hf := (if_pos c_55).symm.trans hf
                  obtain ⟨a_71, b_72, hf, ea_69, eb_70⟩ := ad_at hf
                  refine rb_hnew C ck_J1 q225 q132 q72 [.null, .int 0, .int 0, .int 0] rfl (Bd.c1 hb ea_69) (Bd.s1 hb eb_70) dX1_operatorByColour_58 ?_
                  have hb := Bd.ade hb ea_69 eb_70
                  obtain ⟨h_73, e_h_73⟩ : ∃ z, z = (va_up h_l33_42 n_l33_42 (some (.inr (13, [.null, .int 0, .int 0, .int 0])))) := ⟨_, rfl⟩
                  rw [← e_h_73]
                  have hf := rb_let hf e_h_73
                  refine rb_dup C dX1_operatorByColour_61 rfl ?_
                  obtain ⟨⟨r_75, h_76, k_77, s_78⟩, e_79, hf⟩ := rb_bd hf
                  obtain ⟨a_82, b_83, hf, ea_80, eb_81⟩ := ad_at hf
                  refine rb_callI (As := []) (rest := [.ref n_l33_42, .ref (n + k_10)]) C mi_J1_init si_X1_65 (ct_J1_init Ev h_73 (n_l33_42 + 1) n_l33_42 r_75 _ _ _ e_79) rfl rfl (Nat.le_of_ble_eq_true rfl) ⟨Nat.le_of_ble_eq_true rfl, Nat.le_of_ble_eq_true rfl, Bd.c1 hb ea_80, Bd.s1 hb eb_81⟩ dX1_operatorByColour_62 rb_xX (rb_kX (rb_w (kc := ((kc_l33_42 + 1) + k_77)) (ks := ((ks_l33_42 + 4) + s_78)) rfl rfl ?_))
                  have hb := Bd.ade hb ea_80 eb_81
                  refine rb_ldcS C q227 dX1_operatorByColour_65 ?_
                  obtain ⟨u_84, e_85, hf⟩ := rb_bd hf
                  obtain ⟨⟨r_87, h_88, k_89, s_90⟩, e_91, hf⟩ := rb_bd hf
                  obtain ⟨a_94, b_95, hf, ea_92, eb_93⟩ := ad_at hf
                  refine rb_callV (As := [.ref (eS Ev RX1 93)]) (rest := [.ref (n + k_10)]) C mi_J1_append_3 sv_X1_68 (hp_k_isC C.pf e_85 ck_J1) (ct_J1_append_3 Ev h_76 ((n_l33_42 + 1) + k_77) n_l33_42 (eS Ev RX1 93) r_87 _ _ _ e_91) rfl rfl (Nat.le_of_ble_eq_true rfl) ⟨Nat.le_of_ble_eq_true rfl, Nat.le_of_ble_eq_true rfl, Bd.c1 hb ea_92, Bd.s1 hb eb_93⟩ dX1_operatorByColour_67 rb_xX (rb_kX (rb_w (kc := (((kc_l33_42 + 1) + k_77) + k_89)) (ks := (((ks_l33_42 + 4) + s_78) + s_90)) rfl rfl ?_))
                  have hb := Bd.ade hb ea_92 eb_93
                  refine rb_ldcS C q1063 dX1_operatorByColour_70 ?_
                  refine rb_iload C dX1_operatorByColour_72 4 rfl ?_
                  obtain ⟨u_96, e_97, hf⟩ := rb_bd hf
                  obtain ⟨v_99, e_100, hf⟩ := rb_bd hf
                  refine rb_callV (As := [.int y4_l33_42]) (rest := [.ref r_87, .ref (n + k_10)]) C mi_J2_charAt sv_X1_233 (hp_k_isC C.pf e_97 ck_J2) (ct_J2_charAt Ev h_88 (((n_l33_42 + 1) + k_77) + k_89) (eS Ev RX1 32) y4_l33_42 _ e_100) rfl rfl (Nat.le_of_ble_eq_true rfl) ⟨Nat.le_of_ble_eq_true rfl, Nat.le_of_ble_eq_true rfl, hb.c0, hb.s0⟩ dX1_operatorByColour_74 rb_xXi (rb_kXi fun hn_98 => (rb_w (kc := (((kc_l33_42 + 1) + k_77) + k_89)) (ks := (((ks_l33_42 + 4) + s_78) + s_90)) rfl rfl ?_))
                  obtain ⟨u_101, e_102, hf⟩ := rb_bd hf
                  obtain ⟨⟨r_104, h_105, k_106, s_107⟩, e_108, hf⟩ := rb_bd hf
                  obtain ⟨a_111, b_112, hf, ea_109, eb_110⟩ := ad_at hf
                  refine rb_callV (As := [.int v_99]) (rest := [.ref (n + k_10)]) C mi_J1_append_7 sv_X1_88 (hp_k_isC C.pf e_102 ck_J1) (ct_J1_append_7 Ev h_88 (((n_l33_42 + 1) + k_77) + k_89) r_87 v_99 r_104 _ _ _ e_108) rfl rfl (Nat.le_of_ble_eq_true rfl) ⟨Nat.le_of_ble_eq_true rfl, Nat.le_of_ble_eq_true rfl, Bd.c1 hb ea_109, Bd.s1 hb eb_110⟩ dX1_operatorByColour_77 rb_xX (rb_kX (rb_w (kc := ((((kc_l33_42 + 1) + k_77) + k_89) + k_106)) (ks := ((((ks_l33_42 + 4) + s_78) + s_90) + s_107)) rfl rfl ?_))
                  have hb := Bd.ade hb ea_109 eb_110
                  obtain ⟨u_113, e_114, hf⟩ := rb_bd hf
                  obtain ⟨⟨r_116, h_117, k_118, s_119⟩, e_120, hf⟩ := rb_bd hf
                  obtain ⟨a_123, b_124, hf, ea_121, eb_122⟩ := ad_at hf
                  refine rb_callV (As := []) (rest := [.ref (n + k_10)]) C mi_J1_toString sv_X1_78 (hp_k_isC C.pf e_114 ck_J1) (ct_J1_toString Ev h_105 ((((n_l33_42 + 1) + k_77) + k_89) + k_106) r_104 r_116 _ _ _ e_120) rfl rfl (Nat.le_of_ble_eq_true rfl) ⟨Nat.le_of_ble_eq_true rfl, Nat.le_of_ble_eq_true rfl, Bd.c1 hb ea_121, Bd.s1 hb eb_122⟩ dX1_operatorByColour_80 rb_xX (rb_kX (rb_w (kc := (((((kc_l33_42 + 1) + k_77) + k_89) + k_106) + k_118)) (ks := (((((ks_l33_42 + 4) + s_78) + s_90) + s_107) + s_119)) rfl rfl ?_))
                  have hb := Bd.ade hb ea_121 eb_122
                  refine rb_goto (tgt := 88) C dX1_operatorByColour_83 (by decide) ?_
                  exact J_j88_56 r_116 h_117 (((((n_l33_42 + 1) + k_77) + k_89) + k_106) + k_118)  _ _ _ _ hf hb
          refine rb_sub [1, 2, 3, 4, 0] rfl ?_
          exact L_l33_42 4096 0 h_l26_35 n_l26_35 _ _ _ _ hf hb
    refine rb_sub [2, 3, 1, 0] rfl ?_
    exact L_l26_35 4096 6 h_27 (((n + k_10) + 1) + k_28) _ _ _ _ hf hb
  · dsimp only at hf
    by_cases c_125 : E_18 = "java/util/NoSuchElementException"
    · have hf := (if_pos c_125).symm.trans hf
      subst c_125
      refine rb_callS (As := [.int (f_X1_inRange x1 0 (v_4 - 1))]) (rest := []) C mi_X1_requireElement ss_X1_202 (ct_X1_requireElement Ev h n (f_X1_inRange x1 0 (v_4 - 1)) (.inr ("java/util/NoSuchElementException", q_19)) _ _ _ e_12) rfl rfl (Nat.le_of_ble_eq_true rfl) ⟨Nat.le_of_ble_eq_true rfl, Nat.le_of_ble_eq_true rfl, Bd.c1 hb ea_13, Bd.s1 hb eb_14⟩ dX1_operatorByColour_12 (rb_xY (E := "java/util/NoSuchElementException") (rb_wX (kc := (0 + k_10)) (ks := (0 + s_11)) rfl rfl ?_)) rb_kY
      have hb := Bd.ade hb ea_13 eb_14
      cases hf
      exact rb_out C (fun _ z => absurd z List.not_mem_nil) hb.e.2.1 hb.e.2.2 ⟨rfl, rfl, hb.e.1⟩
    have hf := (if_neg c_125).symm.trans hf
    cases hf
def f_X1_apply_j33_16 (Ev : rb_E) (x2 : Int32) (x3 : Int32) (n : Nat) (h_3 : AH) (k_4 : Nat) (v_11 : Nat) (w0_j33_16 : Int32) : Option ((Int32 ⊕ (String × Nat)) × AH × Nat × Nat) := ((f_X1_requireArgument Ev h_3 (n + k_4) w0_j33_16).bind fun (r_18, h_19, k_20, s_21) => (ad k_20 s_21 (match r_18 with | .inl v_27 => ((hp_en Ev v_11).bind fun k_30 => (some (.inl (f_enap v_11 k_30 x2 x3), h_19, 0, 0))) | .inr (E_28, q_29) => (if E_28 = "java/lang/IllegalArgumentException" then (some (.inr ("java/lang/IllegalArgumentException", q_29), h_19, 0, 0)) else none))))
def f_X1_apply (Ev : rb_E) (h : AH) (n : Nat) (o : Nat) (x1 : Int32) (x2 : Int32) (x3 : Int32) : Option ((Int32 ⊕ (String × Nat)) × AH × Nat × Nat) := ((f_X3_of Ev h n x1).bind fun (r_2, h_3, k_4, s_5) => (ad k_4 s_5 (match r_2 with | .inl v_11 => (if (f_X1_inRange x2 0 999) = 0 then (f_X1_apply_j33_16 Ev x2 x3 n h_3 k_4 v_11 0) else (if (f_X1_inRange x3 0 999) = 0 then (f_X1_apply_j33_16 Ev x2 x3 n h_3 k_4 v_11 0) else (f_X1_apply_j33_16 Ev x2 x3 n h_3 k_4 v_11 1))) | .inr (E_12, q_13) => (if E_12 = "java/lang/IllegalArgumentException" then (some (.inr ("java/lang/IllegalArgumentException", q_13), h_3, 0, 0)) else none))))
abbrev rm_X1_apply (k s : Nat) : Room := { frames := 9, cells := k, slots := s, locals := 201 }
set_option maxHeartbeats 4000000 in
theorem ct_X1_apply (Ev : rb_E) (h : AH) (n : Nat) (o : Nat) (x1 : Int32) (x2 : Int32) (x3 : Int32) (r : Int32 ⊕ (String × Nat)) (h' : AH) (k s : Nat) (hf : f_X1_apply Ev h n o x1 x2 x3 = some (r, h', k, s)) : Ct Ev yX1_apply (ws_ yX1_apply cX1_apply 5 (some .int)) (rm_X1_apply k s) [.ref o, .int x1, .int x2, .int x3] h n (pX (rMap (fun v => some (.int v)) r) h' (n + k)) := by
  rw [f_X1_apply] at hf
  refine Ct.of rfl (Nat.le_of_ble_eq_true rfl) fun X C hnm => ?_
  have C : Cx Ev X RX1 cX1_apply 5 (some .int) [] := C
  show Wa Ev X (rm_X1_apply k s) 5 h n 0 0 (rb_MQ Ev X (rm_X1_apply k s) (pX (rMap (fun v => some (.int v)) r) h' (n + k))) 0 [(0, .ref o), (1, .int x1), (2, .int x2), (3, .int x3)] []
  have hb : Bd (n + k) k s n 0 0 k s := ⟨rfl, Nat.le_of_eq (Nat.zero_add _), Nat.le_of_eq (Nat.zero_add _)⟩
  refine rb_iload_n C dX1_apply_0 rfl 1 rfl ?_
  obtain ⟨⟨r_2, h_3, k_4, s_5⟩, e_6, hf⟩ := rb_bd hf
  obtain ⟨a_9, b_10, hf, ea_7, eb_8⟩ := ad_at hf
  rcases r_2 with v_11 | ⟨E_12, q_13⟩
  · dsimp only at hf
    refine rb_callS (As := [.int x1]) (rest := []) C mi_X3_of ss_X1_234 (ct_X3_of Ev h n x1 (.inl v_11) _ _ _ e_6) rfl rfl (Nat.le_of_ble_eq_true rfl) ⟨Nat.le_of_ble_eq_true rfl, Nat.le_of_ble_eq_true rfl, Bd.c1 hb ea_7, Bd.s1 hb eb_8⟩ dX1_apply_1 rb_xX (rb_kX (r := some (.ref v_11)) (rb_w (kc := (0 + k_4)) (ks := (0 + s_5)) rfl rfl ?_))
    have hb := Bd.ade hb ea_7 eb_8
    refine rb_astore (lv' := [(4, .ref v_11), (0, .ref o), (1, .int x1), (2, .int x2), (3, .int x3)]) C dX1_apply_4 (by decide) rfl ?_
    refine rb_iload_n C dX1_apply_6 rfl 3 rfl ?_
    refine rb_iconst (v := 0) C dX1_apply_7 rfl ?_
    refine rb_sipush (v := 999) C dX1_apply_8 rfl ?_
    refine rb_callS (As := [.int x2, .int 0, .int 999]) (rest := []) C mi_X1_inRange ss_X1_7 (ct_X1_inRange Ev h_3 (n + k_4) x2 0 999 _ rfl) rfl rfl (Nat.le_of_ble_eq_true rfl) ⟨Nat.le_of_ble_eq_true rfl, Nat.le_of_ble_eq_true rfl, hb.c0, hb.s0⟩ dX1_apply_11 rb_xXi (rb_kXi fun hn_14 => (rb_w (kc := (0 + k_4)) (ks := (0 + s_5)) rfl rfl ?_))
    have J_j33_16 : ∀ (w0_j33_16 : Int32) (kc_j33_16 ks_j33_16 a_ b_ : Nat), f_X1_apply_j33_16 Ev x2 x3 n h_3 k_4 v_11 w0_j33_16 = some (r, h', a_, b_) → Bd (n + k) k s (n + k_4) kc_j33_16 ks_j33_16 a_ b_ → Wa Ev X (rm_X1_apply k s) 5 h_3 (n + k_4) kc_j33_16 ks_j33_16 (rb_MQ Ev X (rm_X1_apply k s) (pX (rMap (fun v => some (.int v)) r) h' (n + k))) 33 [(0, .ref o), (1, .int x1), (2, .int x2), (3, .int x3), (4, .ref v_11)] [.int w0_j33_16] := by
      intro w0_j33_16 kc_j33_16 ks_j33_16 a_ b_ hf hb
      rw [f_X1_apply_j33_16] at hf
      obtain ⟨⟨r_18, h_19, k_20, s_21⟩, e_22, hf⟩ := rb_bd hf
      obtain ⟨a_25, b_26, hf, ea_23, eb_24⟩ := ad_at hf
      rcases r_18 with v_27 | ⟨E_28, q_29⟩
      · dsimp only at hf
        refine rb_callS (As := [.int w0_j33_16]) (rest := []) C mi_X1_requireArgument ss_X1_28 (ct_X1_requireArgument Ev h_3 (n + k_4) w0_j33_16 (.inl v_27) _ _ _ e_22) rfl rfl (Nat.le_of_ble_eq_true rfl) ⟨Nat.le_of_ble_eq_true rfl, Nat.le_of_ble_eq_true rfl, Bd.c1 hb ea_23, Bd.s1 hb eb_24⟩ dX1_apply_33 rb_xX (rb_kX (r := none) (rb_w (kc := (kc_j33_16 + k_20)) (ks := (ks_j33_16 + s_21)) rfl rfl ?_))
        have hb := Bd.ade hb ea_23 eb_24
        refine rb_aload C dX1_apply_36 4 rfl ?_
        refine rb_iload_n C dX1_apply_38 rfl 2 rfl ?_
        refine rb_iload_n C dX1_apply_39 rfl 3 rfl ?_
        obtain ⟨k_30, e_31, hf⟩ := rb_bd hf
        suffices kk_ap : Wa Ev X (rm_X1_apply k s) 5 h_19 ((n + k_4) + k_20) (kc_j33_16 + k_20) (ks_j33_16 + s_21) (rb_MQ Ev X (rm_X1_apply k s) (pX (rMap (fun v => some (.int v)) r) h' (n + k))) 43 [(0, .ref o), (1, .int x1), (2, .int x2), (3, .int x3), (4, .ref v_11)] [.int (f_enap v_11 k_30 x2 x3)] by
          obtain ⟨g1_ap, g2_ap⟩ := hp_en_at e_31
          rcases (show k_30 = 0 ∨ k_30 = 1 ∨ k_30 = 2 ∨ k_30 = 3 ∨ k_30 = 4 ∨ k_30 = 5 by omega) with rfl | rfl | rfl | rfl | rfl | rfl
          · exact rb_callVOR (As := [.int x2, .int x3]) (rest := []) C mr_X15_apply so_X1_237_X15_apply (hp_en_isC e_31) (ct_X15_apply Ev h_19 ((n + k_4) + k_20) v_11 x2 x3 (f_enap v_11 0 x2 x3) rfl) rfl rfl (Nat.le_of_ble_eq_true rfl) ⟨Nat.le_of_ble_eq_true rfl, Nat.le_of_ble_eq_true rfl, hb.c0, hb.s0⟩ dX1_apply_40 rb_xXi (rb_kXi fun _ => rb_w (kc := (kc_j33_16 + k_20)) (ks := (ks_j33_16 + s_21)) rfl rfl kk_ap)
          · exact rb_callVOR (As := [.int x2, .int x3]) (rest := []) C mr_X16_apply so_X1_237_X16_apply (hp_en_isC e_31) (ct_X16_apply Ev h_19 ((n + k_4) + k_20) v_11 x2 x3 (f_enap v_11 1 x2 x3) rfl) rfl rfl (Nat.le_of_ble_eq_true rfl) ⟨Nat.le_of_ble_eq_true rfl, Nat.le_of_ble_eq_true rfl, hb.c0, hb.s0⟩ dX1_apply_40 rb_xXi (rb_kXi fun _ => rb_w (kc := (kc_j33_16 + k_20)) (ks := (ks_j33_16 + s_21)) rfl rfl kk_ap)
          · exact rb_callVOR (As := [.int x2, .int x3]) (rest := []) C mr_X17_apply so_X1_237_X17_apply (hp_en_isC e_31) (ct_X17_apply Ev h_19 ((n + k_4) + k_20) v_11 x2 x3 (f_enap v_11 2 x2 x3) rfl) rfl rfl (Nat.le_of_ble_eq_true rfl) ⟨Nat.le_of_ble_eq_true rfl, Nat.le_of_ble_eq_true rfl, hb.c0, hb.s0⟩ dX1_apply_40 rb_xXi (rb_kXi fun _ => rb_w (kc := (kc_j33_16 + k_20)) (ks := (ks_j33_16 + s_21)) rfl rfl kk_ap)
          · exact rb_callVOR (As := [.int x2, .int x3]) (rest := []) C mr_X18_apply so_X1_237_X18_apply (hp_en_isC e_31) (ct_X18_apply Ev h_19 ((n + k_4) + k_20) v_11 x2 x3 (f_enap v_11 3 x2 x3) rfl) rfl rfl (Nat.le_of_ble_eq_true rfl) ⟨Nat.le_of_ble_eq_true rfl, Nat.le_of_ble_eq_true rfl, hb.c0, hb.s0⟩ dX1_apply_40 rb_xXi (rb_kXi fun _ => rb_w (kc := (kc_j33_16 + k_20)) (ks := (ks_j33_16 + s_21)) rfl rfl kk_ap)
          · exact rb_callVOR (As := [.int x2, .int x3]) (rest := []) C mr_X19_apply so_X1_237_X19_apply (hp_en_isC e_31) (ct_X19_apply Ev h_19 ((n + k_4) + k_20) v_11 x2 x3 (f_enap v_11 4 x2 x3) rfl) rfl rfl (Nat.le_of_ble_eq_true rfl) ⟨Nat.le_of_ble_eq_true rfl, Nat.le_of_ble_eq_true rfl, hb.c0, hb.s0⟩ dX1_apply_40 rb_xXi (rb_kXi fun _ => rb_w (kc := (kc_j33_16 + k_20)) (ks := (ks_j33_16 + s_21)) rfl rfl kk_ap)
          · exact rb_callVOR (As := [.int x2, .int x3]) (rest := []) C mr_X20_apply so_X1_237_X20_apply (hp_en_isC e_31) (ct_X20_apply Ev h_19 ((n + k_4) + k_20) v_11 x2 x3 (f_enap v_11 5 x2 x3) rfl) rfl rfl (Nat.le_of_ble_eq_true rfl) ⟨Nat.le_of_ble_eq_true rfl, Nat.le_of_ble_eq_true rfl, hb.c0, hb.s0⟩ dX1_apply_40 rb_xXi (rb_kXi fun _ => rb_w (kc := (kc_j33_16 + k_20)) (ks := (ks_j33_16 + s_21)) rfl rfl kk_ap)
        cases hf
        exact rb_iret C rfl rfl hb.e.2.1 hb.e.2.2 dX1_apply_43 ⟨rfl, rfl, hb.e.1⟩
      · dsimp only at hf
        by_cases c_32 : E_28 = "java/lang/IllegalArgumentException"
        · have hf := (if_pos c_32).symm.trans hf
          subst c_32
          refine rb_callS (As := [.int w0_j33_16]) (rest := []) C mi_X1_requireArgument ss_X1_28 (ct_X1_requireArgument Ev h_3 (n + k_4) w0_j33_16 (.inr ("java/lang/IllegalArgumentException", q_29)) _ _ _ e_22) rfl rfl (Nat.le_of_ble_eq_true rfl) ⟨Nat.le_of_ble_eq_true rfl, Nat.le_of_ble_eq_true rfl, Bd.c1 hb ea_23, Bd.s1 hb eb_24⟩ dX1_apply_33 (rb_xY (E := "java/lang/IllegalArgumentException") (rb_wX (kc := (kc_j33_16 + k_20)) (ks := (ks_j33_16 + s_21)) rfl rfl ?_)) rb_kY
          have hb := Bd.ade hb ea_23 eb_24
          cases hf
          exact rb_out C (fun _ z => absurd z List.not_mem_nil) hb.e.2.1 hb.e.2.2 ⟨rfl, rfl, hb.e.1⟩
        have hf := (if_neg c_32).symm.trans hf
        cases hf
    refine rb_if_eq (tgt := 32) C dX1_apply_14 (by decide) (fun c_15 => ?_) (fun c_15 => ?_)
    · have hf := (if_pos c_15).symm.trans hf
      refine rb_iconst (v := 0) C dX1_apply_32 rfl ?_
      refine rb_sub [1, 2, 3, 4, 0] rfl ?_
      exact J_j33_16 0  _ _ _ _ hf hb
    · have hf := (if_neg c_15).symm.trans hf
      refine rb_iload_n C dX1_apply_17 rfl 4 rfl ?_
      refine rb_iconst (v := 0) C dX1_apply_18 rfl ?_
      refine rb_sipush (v := 999) C dX1_apply_19 rfl ?_
      refine rb_callS (As := [.int x3, .int 0, .int 999]) (rest := []) C mi_X1_inRange ss_X1_7 (ct_X1_inRange Ev h_3 (n + k_4) x3 0 999 _ rfl) rfl rfl (Nat.le_of_ble_eq_true rfl) ⟨Nat.le_of_ble_eq_true rfl, Nat.le_of_ble_eq_true rfl, hb.c0, hb.s0⟩ dX1_apply_22 rb_xXi (rb_kXi fun hn_33 => (rb_w (kc := (0 + k_4)) (ks := (0 + s_5)) rfl rfl ?_))
      refine rb_if_eq (tgt := 32) C dX1_apply_25 (by decide) (fun c_34 => ?_) (fun c_34 => ?_)
      · have hf := (if_pos c_34).symm.trans hf
        refine rb_iconst (v := 0) C dX1_apply_32 rfl ?_
        refine rb_sub [1, 2, 3, 4, 0] rfl ?_
        exact J_j33_16 0  _ _ _ _ hf hb
      · have hf := (if_neg c_34).symm.trans hf
        refine rb_iconst (v := 1) C dX1_apply_28 rfl ?_
        refine rb_goto (tgt := 33) C dX1_apply_29 (by decide) ?_
        refine rb_sub [1, 2, 3, 4, 0] rfl ?_
        exact J_j33_16 1  _ _ _ _ hf hb
  · dsimp only at hf
    by_cases c_35 : E_12 = "java/lang/IllegalArgumentException"
    · have hf := (if_pos c_35).symm.trans hf
      subst c_35
      refine rb_callS (As := [.int x1]) (rest := []) C mi_X3_of ss_X1_234 (ct_X3_of Ev h n x1 (.inr ("java/lang/IllegalArgumentException", q_13)) _ _ _ e_6) rfl rfl (Nat.le_of_ble_eq_true rfl) ⟨Nat.le_of_ble_eq_true rfl, Nat.le_of_ble_eq_true rfl, Bd.c1 hb ea_7, Bd.s1 hb eb_8⟩ dX1_apply_1 (rb_xY (E := "java/lang/IllegalArgumentException") (rb_wX (kc := (0 + k_4)) (ks := (0 + s_5)) rfl rfl ?_)) rb_kY
      have hb := Bd.ade hb ea_7 eb_8
      cases hf
      exact rb_out C (fun _ z => absurd z List.not_mem_nil) hb.e.2.1 hb.e.2.2 ⟨rfl, rfl, hb.e.1⟩
    have hf := (if_neg c_35).symm.trans hf
    cases hf
def f_X1_tree (Ev : rb_E) (h : AH) (n : Nat) (o : Nat) : Option ((Nat ⊕ (String × Nat)) × AH × Nat × Nat) := ((hp_p Ev h o 0 0).bind fun v_1 => ((hp_k Ev h v_1 1).bind fun u_3 => ((f_X2_tree Ev h n v_1).bind fun (r_6, h_7, k_8, s_9) => (ad k_8 s_9 (match r_6 with | .inl v_15 => (some (.inl v_15, h_7, 0, 0)) | .inr (E_16, q_17) => (if E_16 = "RainbowOperators$Denial" then ((hp_k Ev h_7 o 0).bind fun u_19 => ((f_X1_deny Ev h_7 (n + k_8) o q_17).bind fun (r_22, h_23, k_24, s_25) => (ad k_24 s_25 ((hp_k Ev h_23 r_22 25).bind fun u_32 => (some (.inr ("java/lang/UnsupportedOperationException", r_22), h_23, 0, 0)))))) else none))))))
abbrev rm_X1_tree (k s : Nat) : Room := { frames := 74, cells := k, slots := s, locals := 2845 }
set_option maxHeartbeats 4000000 in
theorem ct_X1_tree (Ev : rb_E) (h : AH) (n : Nat) (o : Nat) (r : Nat ⊕ (String × Nat)) (h' : AH) (k s : Nat) (hf : f_X1_tree Ev h n o = some (r, h', k, s)) : Ct Ev yX1_tree (wsW_ yX1_tree cX1_tree 2 (some (.object "RainbowOperators$Part")) ([((0), (7), (8), (34))])) (rm_X1_tree k s) [.ref o] h n (pX (rMap (fun v => some (.ref v)) r) h' (n + k)) := by
  rw [f_X1_tree] at hf
  refine Ct.ofH (hs := ([((0), (7), (8), (34))])) rfl (Nat.le_of_ble_eq_true rfl) fun X C hnm => ?_
  have C : Cx Ev X RX1 cX1_tree 2 (some (.object "RainbowOperators$Part")) (tableOf ([((0), (7), (8), (34))])) := C
  show Wa Ev X (rm_X1_tree k s) 2 h n 0 0 (rb_MQ Ev X (rm_X1_tree k s) (pX (rMap (fun v => some (.ref v)) r) h' (n + k))) 0 [(0, .ref o)] []
  have hb : Bd (n + k) k s n 0 0 k s := ⟨rfl, Nat.le_of_eq (Nat.zero_add _), Nat.le_of_eq (Nat.zero_add _)⟩
  refine rb_aload_n C dX1_tree_0 rfl 0 rfl ?_
  obtain ⟨v_1, e_2, hf⟩ := rb_bd hf
  refine rb_hP C fl_X1_104_X1 e_2 dX1_tree_1 ?_
  obtain ⟨u_3, e_4, hf⟩ := rb_bd hf
  obtain ⟨⟨r_6, h_7, k_8, s_9⟩, e_10, hf⟩ := rb_bd hf
  obtain ⟨a_13, b_14, hf, ea_11, eb_12⟩ := ad_at hf
  rcases r_6 with v_15 | ⟨E_16, q_17⟩
  · dsimp only at hf
    refine rb_callV (As := []) (rest := []) C mi_X2_tree sv_X1_168 (hp_k_isC C.pf e_4 ck_X2) (ct_X2_tree Ev h n v_1 (.inl v_15) _ _ _ e_10) rfl rfl (Nat.le_of_ble_eq_true rfl) ⟨Nat.le_of_ble_eq_true rfl, Nat.le_of_ble_eq_true rfl, Bd.c1 hb ea_11, Bd.s1 hb eb_12⟩ dX1_tree_4 rb_xX (rb_kX (r := some (.ref v_15)) (rb_w (kc := (0 + k_8)) (ks := (0 + s_9)) rfl rfl ?_))
    have hb := Bd.ade hb ea_11 eb_12
    cases hf
    exact rb_aret C rfl (Or.inl ⟨_, rfl⟩) (Or.inr ⟨_, rfl⟩) hb.e.2.1 hb.e.2.2 dX1_tree_7 ⟨rfl, rfl, hb.e.1⟩
  · dsimp only at hf
    by_cases c_18 : E_16 = "RainbowOperators$Denial"
    · have hf := (if_pos c_18).symm.trans hf
      subst c_18
      refine rb_callV (As := []) (rest := []) C mi_X2_tree sv_X1_168 (hp_k_isC C.pf e_4 ck_X2) (ct_X2_tree Ev h n v_1 (.inr ("RainbowOperators$Denial", q_17)) _ _ _ e_10) rfl rfl (Nat.le_of_ble_eq_true rfl) ⟨Nat.le_of_ble_eq_true rfl, Nat.le_of_ble_eq_true rfl, Bd.c1 hb ea_11, Bd.s1 hb eb_12⟩ dX1_tree_4 (rb_xY (E := "RainbowOperators$Denial") (rb_wX (kc := (0 + k_8)) (ks := (0 + s_9)) rfl rfl ?_)) rb_kY
      have hb := Bd.ade hb ea_11 eb_12
      refine rb_catch C (pre := []) (x := ⟨0, 7, 8, 34⟩) (suf := []) rfl ?_ rfl (by decide) q261 q852 ?_
      · intro z hz
        exact absurd hz List.not_mem_nil
      refine rb_astore_n (lv' := [(1, .ref q_17), (0, .ref o)]) C dX1_tree_8 rfl (by decide) rfl ?_
      refine rb_aload_n C dX1_tree_9 rfl 1 rfl ?_
      refine rb_aload_n C dX1_tree_10 rfl 0 rfl ?_
      obtain ⟨u_19, e_20, hf⟩ := rb_bd hf
      obtain ⟨⟨r_22, h_23, k_24, s_25⟩, e_26, hf⟩ := rb_bd hf
      obtain ⟨a_29, b_30, hf, ea_27, eb_28⟩ := ad_at hf
      refine rb_callV (As := [.ref q_17]) (rest := []) C mi_X1_deny sv_X1_164 (hp_k_isC C.pf e_20 ck_X1) (ct_X1_deny Ev h_7 (n + k_8) o q_17 r_22 _ _ _ e_26) rfl rfl (Nat.le_of_ble_eq_true rfl) ⟨Nat.le_of_ble_eq_true rfl, Nat.le_of_ble_eq_true rfl, Bd.c1 hb ea_27, Bd.s1 hb eb_28⟩ dX1_tree_11 rb_xX (rb_kX (rb_w (kc := ((0 + k_8) + k_24)) (ks := ((0 + s_9) + s_25)) rfl rfl ?_))
      have hb := Bd.ade hb ea_27 eb_28
      obtain ⟨u_32, e_31, hf⟩ := rb_bd hf
      refine rb_hthrow (rest := []) C ck_J24 e_31 dX1_tree_14 ?_
      cases hf
      refine rb_outP C ?_ hb.e.2.1 hb.e.2.2 ⟨rfl, rfl, hb.e.1⟩
      intro z hz
      simp only [tableOf, List.map_cons, List.map_nil, List.mem_cons, List.not_mem_nil, or_false] at hz
      · subst hz; exact Or.inl rfl
    have hf := (if_neg c_18).symm.trans hf
    cases hf
def f_X1_value (Ev : rb_E) (h : AH) (n : Nat) (o : Nat) : Option ((Int32 ⊕ (String × Nat)) × AH × Nat × Nat) := ((hp_p Ev h o 0 0).bind fun v_1 => ((hp_k Ev h o 0).bind fun u_3 => ((f_X1_tree Ev h n o).bind fun (r_6, h_7, k_8, s_9) => (ad k_8 s_9 (match r_6 with | .inl v_15 => ((hp_k Ev h_7 v_1 1).bind fun u_18 => ((f_X2_computed Ev 30 h_7 (n + k_8) v_1 v_15).bind fun (r_21, h_22, k_23, s_24) => (ad k_23 s_24 (some (.inl r_21, h_22, 0, 0))))) | .inr (E_16, q_17) => (if E_16 = "java/lang/UnsupportedOperationException" then (some (.inr ("java/lang/UnsupportedOperationException", q_17), h_7, 0, 0)) else none))))))
abbrev rm_X1_value (k s : Nat) : Room := { frames := 75, cells := k, slots := s, locals := 2866 }
set_option maxHeartbeats 4000000 in
theorem ct_X1_value (Ev : rb_E) (h : AH) (n : Nat) (o : Nat) (r : Int32 ⊕ (String × Nat)) (h' : AH) (k s : Nat) (hf : f_X1_value Ev h n o = some (r, h', k, s)) : Ct Ev yX1_value (ws_ yX1_value cX1_value 1 (some .int)) (rm_X1_value k s) [.ref o] h n (pX (rMap (fun v => some (.int v)) r) h' (n + k)) := by
  rw [f_X1_value] at hf
  refine Ct.of rfl (Nat.le_of_ble_eq_true rfl) fun X C hnm => ?_
  have C : Cx Ev X RX1 cX1_value 1 (some .int) [] := C
  show Wa Ev X (rm_X1_value k s) 1 h n 0 0 (rb_MQ Ev X (rm_X1_value k s) (pX (rMap (fun v => some (.int v)) r) h' (n + k))) 0 [(0, .ref o)] []
  have hb : Bd (n + k) k s n 0 0 k s := ⟨rfl, Nat.le_of_eq (Nat.zero_add _), Nat.le_of_eq (Nat.zero_add _)⟩
  refine rb_aload_n C dX1_value_0 rfl 0 rfl ?_
  obtain ⟨v_1, e_2, hf⟩ := rb_bd hf
  refine rb_hP C fl_X1_104_X1 e_2 dX1_value_1 ?_
  refine rb_aload_n C dX1_value_4 rfl 0 rfl ?_
  obtain ⟨u_3, e_4, hf⟩ := rb_bd hf
  obtain ⟨⟨r_6, h_7, k_8, s_9⟩, e_10, hf⟩ := rb_bd hf
  obtain ⟨a_13, b_14, hf, ea_11, eb_12⟩ := ad_at hf
  rcases r_6 with v_15 | ⟨E_16, q_17⟩
  · dsimp only at hf
    refine rb_callVX (As := []) (rest := [.ref v_1]) C mi_X1_tree sv_X1_239 (hp_k_isC C.pf e_4 ck_X1) (ct_X1_tree Ev h n o (.inl v_15) _ _ _ e_10) rfl rfl (Nat.le_of_ble_eq_true rfl) ⟨Nat.le_of_ble_eq_true rfl, Nat.le_of_ble_eq_true rfl, Bd.c1 hb ea_11, Bd.s1 hb eb_12⟩ dX1_value_5 rb_xX (rb_kX (r := some (.ref v_15)) (rb_w (kc := (0 + k_8)) (ks := (0 + s_9)) rfl rfl ?_))
    have hb := Bd.ade hb ea_11 eb_12
    obtain ⟨u_18, e_19, hf⟩ := rb_bd hf
    obtain ⟨⟨r_21, h_22, k_23, s_24⟩, e_25, hf⟩ := rb_bd hf
    obtain ⟨a_28, b_29, hf, ea_26, eb_27⟩ := ad_at hf
    refine rb_callV (As := [.ref v_15]) (rest := []) C mi_X2_computed sv_X1_240 (hp_k_isC C.pf e_19 ck_X2) (ct_X2_computed Ev h_7 (n + k_8) 30 v_1 v_15 r_21 _ _ _ e_25) rfl rfl (Nat.le_of_ble_eq_true rfl) ⟨Nat.le_of_ble_eq_true rfl, Nat.le_of_ble_eq_true rfl, Bd.c1 hb ea_26, Bd.s1 hb eb_27⟩ dX1_value_8 rb_xXi (rb_kXi fun hn_20 => (rb_w (kc := ((0 + k_8) + k_23)) (ks := ((0 + s_9) + s_24)) rfl rfl ?_))
    have hb := Bd.ade hb ea_26 eb_27
    cases hf
    exact rb_iret C rfl rfl hb.e.2.1 hb.e.2.2 dX1_value_11 ⟨rfl, rfl, hb.e.1⟩
  · dsimp only at hf
    by_cases c_30 : E_16 = "java/lang/UnsupportedOperationException"
    · have hf := (if_pos c_30).symm.trans hf
      subst c_30
      refine rb_callVX (As := []) (rest := [.ref v_1]) C mi_X1_tree sv_X1_239 (hp_k_isC C.pf e_4 ck_X1) (ct_X1_tree Ev h n o (.inr ("java/lang/UnsupportedOperationException", q_17)) _ _ _ e_10) rfl rfl (Nat.le_of_ble_eq_true rfl) ⟨Nat.le_of_ble_eq_true rfl, Nat.le_of_ble_eq_true rfl, Bd.c1 hb ea_11, Bd.s1 hb eb_12⟩ dX1_value_5 (rb_xY (E := "java/lang/UnsupportedOperationException") (rb_wX (kc := (0 + k_8)) (ks := (0 + s_9)) rfl rfl ?_)) rb_kY
      have hb := Bd.ade hb ea_11 eb_12
      cases hf
      exact rb_out C (fun _ z => absurd z List.not_mem_nil) hb.e.2.1 hb.e.2.2 ⟨rfl, rfl, hb.e.1⟩
    have hf := (if_neg c_30).symm.trans hf
    cases hf
def f_X11_init (Ev : rb_E) (h : AH) (n : Nat) (o : Nat) (x1 : Nat) : Option (Unit × AH × Nat × Nat) := (ad 1 3 (rb_lt (va_up h n (some (.inr (15, [.null, .int 0, .int 0])))) fun h_5 => ((f_J6_init Ev h_5 (n + 1) n).bind fun (r_7, h_8, k_9, s_10) => (ad k_9 s_10 ((hp_put h_8 o 9 1 (.ref n)).bind fun h_16 => (ad 1 3 (rb_lt (va_up h_16 ((n + 1) + k_9) (some (.inr (15, [.null, .int 0, .int 0])))) fun h_22 => ((f_J6_init Ev h_22 (((n + 1) + k_9) + 1) ((n + 1) + k_9)).bind fun (r_24, h_25, k_26, s_27) => (ad k_26 s_27 ((hp_put h_25 o 9 2 (.ref ((n + 1) + k_9))).bind fun h_33 => ((hp_put h_33 o 9 3 (.int 1)).bind fun h_35 => ((hp_put h_35 o 9 0 (.ref x1)).bind fun h_37 => (some ((), h_37, 0, 0))))))))))))))
abbrev rm_X11_init (k s : Nat) : Room := { frames := 3, cells := k, slots := s, locals := 80 }
set_option maxHeartbeats 4000000 in
theorem ct_X11_init (Ev : rb_E) (h : AH) (n : Nat) (o : Nat) (x1 : Nat) (r : Unit) (h' : AH) (k s : Nat) (hf : f_X11_init Ev h n o x1 = some (r, h', k, s)) : Ct Ev yX11_init (ws_ yX11_init cX11_init 2 none) (rm_X11_init k s) [.ref o, .ref x1] h n (pX (.inl (none)) h' (n + k)) := by
  rw [f_X11_init] at hf
  refine Ct.of rfl (Nat.le_of_ble_eq_true rfl) fun X C hnm => ?_
  have C : Cx Ev X RX11 cX11_init 2 none [] := C
  show Wa Ev X (rm_X11_init k s) 2 h n 0 0 (rb_MQ Ev X (rm_X11_init k s) (pX (.inl (none)) h' (n + k))) 0 [(0, .ref o), (1, .ref x1)] []
  have hb : Bd (n + k) k s n 0 0 k s := ⟨rfl, Nat.le_of_eq (Nat.zero_add _), Nat.le_of_eq (Nat.zero_add _)⟩
  refine rb_aload_n C dX11_init_0 rfl 0 rfl ?_
  refine rb_objInit C q1517 q123 q124 dX11_init_1 (Nat.le_of_ble_eq_true rfl) (Nat.le_of_ble_eq_true rfl) ?_
  refine rb_aload_n C dX11_init_4 rfl 0 rfl ?_
  obtain ⟨a_3, b_4, hf, ea_1, eb_2⟩ := ad_at hf
  refine rb_hnew C ck_J6 q1518 q205 q78 [.null, .int 0, .int 0] rfl (Bd.c1 hb ea_1) (Bd.s1 hb eb_2) dX11_init_5 ?_
  have hb := Bd.ade hb ea_1 eb_2
  obtain ⟨h_5, e_h_5⟩ : ∃ z, z = (va_up h n (some (.inr (15, [.null, .int 0, .int 0])))) := ⟨_, rfl⟩
  rw [← e_h_5]
  have hf := rb_let hf e_h_5
  refine rb_dup C dX11_init_8 rfl ?_
  obtain ⟨⟨r_7, h_8, k_9, s_10⟩, e_11, hf⟩ := rb_bd hf
  obtain ⟨a_14, b_15, hf, ea_12, eb_13⟩ := ad_at hf
  refine rb_callI (As := []) (rest := [.ref n, .ref o]) C mi_J6_init si_X11_9 (ct_J6_init Ev h_5 (n + 1) n r_7 _ _ _ e_11) rfl rfl (Nat.le_of_ble_eq_true rfl) ⟨Nat.le_of_ble_eq_true rfl, Nat.le_of_ble_eq_true rfl, Bd.c1 hb ea_12, Bd.s1 hb eb_13⟩ dX11_init_9 rb_xX (rb_kX (rb_w (kc := ((0 + 1) + k_9)) (ks := ((0 + 3) + s_10)) rfl rfl ?_))
  have hb := Bd.ade hb ea_12 eb_13
  obtain ⟨h_16, e_17, hf⟩ := rb_bd hf
  refine rb_hputF C ff_X11_10_X11 hnm e_17 rfl rfl dX11_init_12 ?_
  refine rb_aload_n C dX11_init_15 rfl 0 rfl ?_
  obtain ⟨a_20, b_21, hf, ea_18, eb_19⟩ := ad_at hf
  refine rb_hnew C ck_J6 q1518 q205 q78 [.null, .int 0, .int 0] rfl (Bd.c1 hb ea_18) (Bd.s1 hb eb_19) dX11_init_16 ?_
  have hb := Bd.ade hb ea_18 eb_19
  obtain ⟨h_22, e_h_22⟩ : ∃ z, z = (va_up h_16 ((n + 1) + k_9) (some (.inr (15, [.null, .int 0, .int 0])))) := ⟨_, rfl⟩
  rw [← e_h_22]
  have hf := rb_let hf e_h_22
  refine rb_dup C dX11_init_19 rfl ?_
  obtain ⟨⟨r_24, h_25, k_26, s_27⟩, e_28, hf⟩ := rb_bd hf
  obtain ⟨a_31, b_32, hf, ea_29, eb_30⟩ := ad_at hf
  refine rb_callI (As := []) (rest := [.ref ((n + 1) + k_9), .ref o]) C mi_J6_init si_X11_9 (ct_J6_init Ev h_22 (((n + 1) + k_9) + 1) ((n + 1) + k_9) r_24 _ _ _ e_28) rfl rfl (Nat.le_of_ble_eq_true rfl) ⟨Nat.le_of_ble_eq_true rfl, Nat.le_of_ble_eq_true rfl, Bd.c1 hb ea_29, Bd.s1 hb eb_30⟩ dX11_init_20 rb_xX (rb_kX (rb_w (kc := ((((0 + 1) + k_9) + 1) + k_26)) (ks := ((((0 + 3) + s_10) + 3) + s_27)) rfl rfl ?_))
  have hb := Bd.ade hb ea_29 eb_30
  obtain ⟨h_33, e_34, hf⟩ := rb_bd hf
  refine rb_hputF C ff_X11_16_X11 hnm e_34 rfl rfl dX11_init_23 ?_
  refine rb_aload_n C dX11_init_26 rfl 0 rfl ?_
  refine rb_iconst (v := 1) C dX11_init_27 rfl ?_
  obtain ⟨h_35, e_36, hf⟩ := rb_bd hf
  refine rb_hput C fw_X11_19_X11 e_36 rfl rfl dX11_init_28 ?_
  refine rb_aload_n C dX11_init_31 rfl 0 rfl ?_
  refine rb_aload_n C dX11_init_32 rfl 1 rfl ?_
  obtain ⟨h_37, e_38, hf⟩ := rb_bd hf
  refine rb_hputF C ff_X11_23_X11 hnm e_38 rfl rfl dX11_init_33 ?_
  cases hf
  exact rb_vret C rfl hb.e.2.1 hb.e.2.2 dX11_init_36 ⟨rfl, rfl, hb.e.1⟩
def f_J6_isEmpty (Ev : rb_E) (h : AH) (o : Nat) : Option Int32 := ((hp_i Ev h o 15 1).bind fun v_1 => ((hp_i Ev h o 15 2).bind fun v_3 => (if v_1 = v_3 then (some 1) else (some 0))))
abbrev rm_J6_isEmpty : Room := { frames := 0, cells := 0, slots := 0, locals := 0 }
set_option maxHeartbeats 4000000 in
theorem ct_J6_isEmpty (Ev : rb_E) (h : AH) (n : Nat) (o : Nat) (r : Int32) (hf : f_J6_isEmpty Ev h o = some r) : Ct Ev yJ6_isEmpty (ws_ yJ6_isEmpty cJ6_isEmpty 1 (some .boolean)) (rm_J6_isEmpty) [.ref o] h n (pXi .boolean r h n) := by
  rw [f_J6_isEmpty] at hf
  refine Ct.of rfl (Nat.le_of_ble_eq_true rfl) fun X C hnm => ?_
  have C : Cx Ev X RJ6 cJ6_isEmpty 1 (some .boolean) [] := C
  show Wa Ev X (rm_J6_isEmpty) 1 h n 0 0 (rb_MQ Ev X (rm_J6_isEmpty) (pXi .boolean r h n)) 0 [(0, .ref o)] []
  refine rb_aload_n C dJ6_isEmpty_0 rfl 0 rfl ?_
  obtain ⟨v_1, e_2, hf⟩ := rb_bd hf
  refine rb_hI C fl_J6_24_J6 e_2 dJ6_isEmpty_1 ?_
  refine rb_aload_n C dJ6_isEmpty_4 rfl 0 rfl ?_
  obtain ⟨v_3, e_4, hf⟩ := rb_bd hf
  refine rb_hI C fl_J6_20_J6 e_4 dJ6_isEmpty_5 ?_
  refine rb_icmp_ne (tgt := 15) C dJ6_isEmpty_8 (by decide) (fun c_5 => ?_) (fun c_5 => ?_)
  · have hf := (if_neg c_5).symm.trans hf
    refine rb_iconst (v := 0) C dJ6_isEmpty_15 rfl ?_
    cases hf
    exact rb_iret C rfl rfl (Nat.zero_le _) (Nat.zero_le _) dJ6_isEmpty_16 ⟨rfl, rfl, rfl, rfl⟩
  · have hf := (if_pos c_5).symm.trans hf
    refine rb_iconst (v := 1) C dJ6_isEmpty_11 rfl ?_
    refine rb_goto (tgt := 16) C dJ6_isEmpty_12 (by decide) ?_
    cases hf
    exact rb_iret C rfl rfl (Nat.zero_le _) (Nat.zero_le _) dJ6_isEmpty_16 ⟨rfl, rfl, rfl, rfl⟩
def f_J6_peekFirst (Ev : rb_E) (h : AH) (o : Nat) : Option Nat := ((hp_p Ev h o 15 0).bind fun v_1 => ((hp_i Ev h o 15 1).bind fun v_3 => ((f_J6_elementAt Ev h v_1 v_3).bind fun v_6 => (some v_6))))
abbrev rm_J6_peekFirst : Room := { frames := 1, cells := 0, slots := 0, locals := 21 }
set_option maxHeartbeats 4000000 in
theorem ct_J6_peekFirst (Ev : rb_E) (h : AH) (n : Nat) (o : Nat) (r : Nat) (hf : f_J6_peekFirst Ev h o = some r) : Ct Ev yJ6_peekFirst (ws_ yJ6_peekFirst cJ6_peekFirst 1 (some (.object "java/lang/Object"))) (rm_J6_peekFirst) [.ref o] h n (pX (.inl (some (.ref r))) h n) := by
  rw [f_J6_peekFirst] at hf
  refine Ct.of rfl (Nat.le_of_ble_eq_true rfl) fun X C hnm => ?_
  have C : Cx Ev X RJ6 cJ6_peekFirst 1 (some (.object "java/lang/Object")) [] := C
  show Wa Ev X (rm_J6_peekFirst) 1 h n 0 0 (rb_MQ Ev X (rm_J6_peekFirst) (pX (.inl (some (.ref r))) h n)) 0 [(0, .ref o)] []
  refine rb_aload_n C dJ6_peekFirst_0 rfl 0 rfl ?_
  obtain ⟨v_1, e_2, hf⟩ := rb_bd hf
  refine rb_hP C fl_J6_3_J6 e_2 dJ6_peekFirst_1 ?_
  refine rb_aload_n C dJ6_peekFirst_4 rfl 0 rfl ?_
  obtain ⟨v_3, e_4, hf⟩ := rb_bd hf
  refine rb_hI C fl_J6_24_J6 e_4 dJ6_peekFirst_5 ?_
  obtain ⟨v_6, e_7, hf⟩ := rb_bd hf
  refine rb_callS (As := [.ref v_1, .int v_3]) (rest := []) C mi_J6_elementAt ss_J6_103 (ct_J6_elementAt Ev h n v_1 v_3 _ e_7) rfl rfl (Nat.le_of_ble_eq_true rfl) ⟨Nat.le_of_ble_eq_true rfl, Nat.le_of_ble_eq_true rfl, (Nat.zero_le _), (Nat.zero_le _)⟩ dJ6_peekFirst_8 rb_xX (rb_kX (rb_w (kc := 0) (ks := 0) rfl rfl ?_))
  cases hf
  exact rb_aret C rfl (Or.inl ⟨_, rfl⟩) (Or.inr ⟨_, rfl⟩) (Nat.zero_le _) (Nat.zero_le _) dJ6_peekFirst_11 ⟨rfl, rfl, rfl⟩
def f_J6_peek (Ev : rb_E) (h : AH) (o : Nat) : Option Nat := ((hp_k Ev h o 15).bind fun u_1 => ((f_J6_peekFirst Ev h o).bind fun v_4 => (some v_4)))
abbrev rm_J6_peek : Room := { frames := 2, cells := 0, slots := 0, locals := 41 }
set_option maxHeartbeats 4000000 in
theorem ct_J6_peek (Ev : rb_E) (h : AH) (n : Nat) (o : Nat) (r : Nat) (hf : f_J6_peek Ev h o = some r) : Ct Ev yJ6_peek (ws_ yJ6_peek cJ6_peek 1 (some (.object "java/lang/Object"))) (rm_J6_peek) [.ref o] h n (pX (.inl (some (.ref r))) h n) := by
  rw [f_J6_peek] at hf
  refine Ct.of rfl (Nat.le_of_ble_eq_true rfl) fun X C hnm => ?_
  have C : Cx Ev X RJ6 cJ6_peek 1 (some (.object "java/lang/Object")) [] := C
  show Wa Ev X (rm_J6_peek) 1 h n 0 0 (rb_MQ Ev X (rm_J6_peek) (pX (.inl (some (.ref r))) h n)) 0 [(0, .ref o)] []
  refine rb_aload_n C dJ6_peek_0 rfl 0 rfl ?_
  obtain ⟨u_1, e_2, hf⟩ := rb_bd hf
  obtain ⟨v_4, e_5, hf⟩ := rb_bd hf
  refine rb_callV (As := []) (rest := []) C mi_J6_peekFirst sv_J6_124 (hp_k_isC C.pf e_2 ck_J6) (ct_J6_peekFirst Ev h n o _ e_5) rfl rfl (Nat.le_of_ble_eq_true rfl) ⟨Nat.le_of_ble_eq_true rfl, Nat.le_of_ble_eq_true rfl, (Nat.zero_le _), (Nat.zero_le _)⟩ dJ6_peek_1 rb_xX (rb_kX (rb_w (kc := 0) (ks := 0) rfl rfl ?_))
  cases hf
  exact rb_aret C rfl (Or.inl ⟨_, rfl⟩) (Or.inr ⟨_, rfl⟩) (Nat.zero_le _) (Nat.zero_le _) dJ6_peek_4 ⟨rfl, rfl, rfl⟩
def f_J18_charValue (Ev : rb_E) (h : AH) (o : Nat) : Option Int32 := ((hp_i Ev h o 19 0).bind fun v_1 => (if narrow .char (.int v_1) = .int v_1 then (some v_1) else none))
abbrev rm_J18_charValue : Room := { frames := 0, cells := 0, slots := 0, locals := 0 }
set_option maxHeartbeats 4000000 in
theorem ct_J18_charValue (Ev : rb_E) (h : AH) (n : Nat) (o : Nat) (r : Int32) (hf : f_J18_charValue Ev h o = some r) : Ct Ev yJ18_charValue (ws_ yJ18_charValue cJ18_charValue 1 (some .char)) (rm_J18_charValue) [.ref o] h n (pXi .char r h n) := by
  rw [f_J18_charValue] at hf
  refine Ct.of rfl (Nat.le_of_ble_eq_true rfl) fun X C hnm => ?_
  have C : Cx Ev X RJ18 cJ18_charValue 1 (some .char) [] := C
  show Wa Ev X (rm_J18_charValue) 1 h n 0 0 (rb_MQ Ev X (rm_J18_charValue) (pXi .char r h n)) 0 [(0, .ref o)] []
  refine rb_aload_n C dJ18_charValue_0 rfl 0 rfl ?_
  obtain ⟨v_1, e_2, hf⟩ := rb_bd hf
  refine rb_hI C fl_J18_19_J18 e_2 dJ18_charValue_1 ?_
  by_cases c_g_3 : narrow .char (.int v_1) = .int v_1
  rotate_left
  · exact absurd ((if_neg c_g_3).symm.trans hf) (fun z => by cases z)
  have hf := (if_pos c_g_3).symm.trans hf
  cases hf
  exact rb_iret C rfl c_g_3 (Nat.zero_le _) (Nat.zero_le _) dJ18_charValue_4 ⟨rfl, rfl, rfl, c_g_3⟩
def f_J6_inc (x0 : Int32) (x1 : Int32) : Int32 := (if (x0 + 1) < x1 then (x0 + 1) else 0)
abbrev rm_J6_inc : Room := { frames := 0, cells := 0, slots := 0, locals := 0 }
set_option maxHeartbeats 4000000 in
theorem ct_J6_inc (Ev : rb_E) (h : AH) (n : Nat) (x0 : Int32) (x1 : Int32) (r : Int32) (hf : f_J6_inc x0 x1 = r) : Ct Ev yJ6_inc (ws_ yJ6_inc cJ6_inc 2 (some .int)) (rm_J6_inc) [.int x0, .int x1] h n (pXi .int r h n) := by
  rw [f_J6_inc] at hf
  refine Ct.of rfl (Nat.le_of_ble_eq_true rfl) fun X C hnm => ?_
  have C : Cx Ev X RJ6 cJ6_inc 2 (some .int) [] := C
  show Wa Ev X (rm_J6_inc) 2 h n 0 0 (rb_MQ Ev X (rm_J6_inc) (pXi .int r h n)) 0 [(0, .int x0), (1, .int x1)] []
  refine rb_iinc (v := (x0 + 1)) (lv' := [(0, .int (x0 + 1)), (1, .int x1)]) C dJ6_inc_0 (k := 0) rfl rfl (by decide) rfl ?_
  refine rb_iload_n C dJ6_inc_3 rfl 0 rfl ?_
  refine rb_iload_n C dJ6_inc_4 rfl 1 rfl ?_
  refine rb_icmp_lt (tgt := 10) C dJ6_inc_5 (by decide) (fun c_1 => ?_) (fun c_1 => ?_)
  · have hf := (if_pos c_1).symm.trans hf
    refine rb_iload_n C dJ6_inc_10 rfl 0 rfl ?_
    subst hf
    exact rb_iret C rfl rfl (Nat.zero_le _) (Nat.zero_le _) dJ6_inc_11 ⟨rfl, rfl, rfl, rfl⟩
  · have hf := (if_neg c_1).symm.trans hf
    refine rb_iconst (v := 0) C dJ6_inc_8 rfl ?_
    refine rb_istore_n (lv' := [(0, .int 0), (1, .int x1)]) C dJ6_inc_9 rfl (by decide) rfl ?_
    refine rb_iload_n C dJ6_inc_10 rfl 0 rfl ?_
    subst hf
    exact rb_iret C rfl rfl (Nat.zero_le _) (Nat.zero_le _) dJ6_inc_11 ⟨rfl, rfl, rfl, rfl⟩
def f_J6_pollFirst (Ev : rb_E) (h : AH) (n : Nat) (o : Nat) : Option (Nat × AH × Nat × Nat) := ((hp_p Ev h o 15 0).bind fun v_1 => ((hp_i Ev h o 15 1).bind fun v_3 => ((f_J6_elementAt Ev h v_1 v_3).bind fun v_6 => ((hp_as Ev h 6 v_1 v_3 none).bind fun h_8 => ((hp_len Ev h_8 v_1 6).bind fun v_10 => ((hp_put h_8 o 15 1 (.int (f_J6_inc v_3 (nI v_10)))).bind fun h_13 => (some (v_6, h_13, 0, 0))))))))
abbrev rm_J6_pollFirst (k s : Nat) : Room := { frames := 1, cells := k, slots := s, locals := 21 }
set_option maxHeartbeats 4000000 in
theorem ct_J6_pollFirst (Ev : rb_E) (h : AH) (n : Nat) (o : Nat) (r : Nat) (h' : AH) (k s : Nat) (hf : f_J6_pollFirst Ev h n o = some (r, h', k, s)) : Ct Ev yJ6_pollFirst (ws_ yJ6_pollFirst cJ6_pollFirst 4 (some (.object "java/lang/Object"))) (rm_J6_pollFirst k s) [.ref o] h n (pX (.inl (some (.ref r))) h' (n + k)) := by
  rw [f_J6_pollFirst] at hf
  refine Ct.of rfl (Nat.le_of_ble_eq_true rfl) fun X C hnm => ?_
  have C : Cx Ev X RJ6 cJ6_pollFirst 4 (some (.object "java/lang/Object")) [] := C
  show Wa Ev X (rm_J6_pollFirst k s) 4 h n 0 0 (rb_MQ Ev X (rm_J6_pollFirst k s) (pX (.inl (some (.ref r))) h' (n + k))) 0 [(0, .ref o)] []
  have hb : Bd (n + k) k s n 0 0 k s := ⟨rfl, Nat.le_of_eq (Nat.zero_add _), Nat.le_of_eq (Nat.zero_add _)⟩
  refine rb_aload_n C dJ6_pollFirst_0 rfl 0 rfl ?_
  obtain ⟨v_1, e_2, hf⟩ := rb_bd hf
  refine rb_hP C fl_J6_3_J6 e_2 dJ6_pollFirst_1 ?_
  refine rb_dup C dJ6_pollFirst_4 rfl ?_
  refine rb_astore_n (lv' := [(1, .ref v_1), (0, .ref o)]) C dJ6_pollFirst_5 rfl (by decide) rfl ?_
  refine rb_aload_n C dJ6_pollFirst_6 rfl 1 rfl ?_
  obtain ⟨v_3, e_4, hf⟩ := rb_bd hf
  refine rb_hI C fl_J6_24_J6 e_4 dJ6_pollFirst_7 ?_
  refine rb_dup C dJ6_pollFirst_10 rfl ?_
  refine rb_istore_n (lv' := [(2, .int v_3), (1, .ref v_1), (0, .ref o)]) C dJ6_pollFirst_11 rfl (by decide) rfl ?_
  obtain ⟨v_6, e_7, hf⟩ := rb_bd hf
  refine rb_callS (As := [.ref v_1, .int v_3]) (rest := []) C mi_J6_elementAt ss_J6_103 (ct_J6_elementAt Ev h n v_1 v_3 _ e_7) rfl rfl (Nat.le_of_ble_eq_true rfl) ⟨Nat.le_of_ble_eq_true rfl, Nat.le_of_ble_eq_true rfl, hb.c0, hb.s0⟩ dJ6_pollFirst_12 rb_xX (rb_kX (rb_w (kc := 0) (ks := 0) rfl rfl ?_))
  refine rb_astore_n (lv' := [(3, .ref v_6), (2, .int v_3), (1, .ref v_1), (0, .ref o)]) C dJ6_pollFirst_15 rfl (by decide) rfl ?_
  refine rb_aload_n C dJ6_pollFirst_16 rfl 0 rfl ?_
  refine rb_ifnull C dJ6_pollFirst_17 ?_
  refine rb_aload_n C dJ6_pollFirst_20 rfl 2 rfl ?_
  refine rb_iload_n C dJ6_pollFirst_21 rfl 1 rfl ?_
  refine rb_null C dJ6_pollFirst_22 ?_
  obtain ⟨h_8, e_9, hf⟩ := rb_bd hf
  refine rb_hasN C 6 rfl e_9 dJ6_pollFirst_23 ?_
  refine rb_aload_n C dJ6_pollFirst_24 rfl 3 rfl ?_
  refine rb_iload_n C dJ6_pollFirst_25 rfl 1 rfl ?_
  refine rb_aload_n C dJ6_pollFirst_26 rfl 2 rfl ?_
  obtain ⟨v_10, e_11, hf⟩ := rb_bd hf
  refine rb_hlen (t := 6) C rfl e_11 dJ6_pollFirst_27 ?_
  refine rb_callS (As := [.int v_3, .int (nI v_10)]) (rest := [.ref o]) C mi_J6_inc ss_J6_74 (ct_J6_inc Ev h_8 n v_3 (nI v_10) _ rfl) rfl rfl (Nat.le_of_ble_eq_true rfl) ⟨Nat.le_of_ble_eq_true rfl, Nat.le_of_ble_eq_true rfl, hb.c0, hb.s0⟩ dJ6_pollFirst_28 rb_xXi (rb_kXi fun hn_12 => (rb_w (kc := 0) (ks := 0) rfl rfl ?_))
  obtain ⟨h_13, e_14, hf⟩ := rb_bd hf
  refine rb_hput C fw_J6_24_J6 e_14 rfl rfl dJ6_pollFirst_31 ?_
  refine rb_aload_n C dJ6_pollFirst_34 rfl 0 rfl ?_
  cases hf
  exact rb_aret C rfl (Or.inl ⟨_, rfl⟩) (Or.inr ⟨_, rfl⟩) hb.e.2.1 hb.e.2.2 dJ6_pollFirst_35 ⟨rfl, rfl, hb.e.1⟩
def f_J6_removeFirst (Ev : rb_E) (h : AH) (n : Nat) (o : Nat) : Option (Nat × AH × Nat × Nat) := ((hp_k Ev h o 15).bind fun u_1 => ((f_J6_pollFirst Ev h n o).bind fun (r_4, h_5, k_6, s_7) => (ad k_6 s_7 (some (r_4, h_5, 0, 0)))))
abbrev rm_J6_removeFirst (k s : Nat) : Room := { frames := 2, cells := k, slots := s, locals := 44 }
set_option maxHeartbeats 4000000 in
theorem ct_J6_removeFirst (Ev : rb_E) (h : AH) (n : Nat) (o : Nat) (r : Nat) (h' : AH) (k s : Nat) (hf : f_J6_removeFirst Ev h n o = some (r, h', k, s)) : Ct Ev yJ6_removeFirst (ws_ yJ6_removeFirst cJ6_removeFirst 2 (some (.object "java/lang/Object"))) (rm_J6_removeFirst k s) [.ref o] h n (pX (.inl (some (.ref r))) h' (n + k)) := by
  rw [f_J6_removeFirst] at hf
  refine Ct.of rfl (Nat.le_of_ble_eq_true rfl) fun X C hnm => ?_
  have C : Cx Ev X RJ6 cJ6_removeFirst 2 (some (.object "java/lang/Object")) [] := C
  show Wa Ev X (rm_J6_removeFirst k s) 2 h n 0 0 (rb_MQ Ev X (rm_J6_removeFirst k s) (pX (.inl (some (.ref r))) h' (n + k))) 0 [(0, .ref o)] []
  have hb : Bd (n + k) k s n 0 0 k s := ⟨rfl, Nat.le_of_eq (Nat.zero_add _), Nat.le_of_eq (Nat.zero_add _)⟩
  refine rb_aload_n C dJ6_removeFirst_0 rfl 0 rfl ?_
  obtain ⟨u_1, e_2, hf⟩ := rb_bd hf
  obtain ⟨⟨r_4, h_5, k_6, s_7⟩, e_8, hf⟩ := rb_bd hf
  obtain ⟨a_11, b_12, hf, ea_9, eb_10⟩ := ad_at hf
  refine rb_callV (As := []) (rest := []) C mi_J6_pollFirst sv_J6_93 (hp_k_isC C.pf e_2 ck_J6) (ct_J6_pollFirst Ev h n o r_4 _ _ _ e_8) rfl rfl (Nat.le_of_ble_eq_true rfl) ⟨Nat.le_of_ble_eq_true rfl, Nat.le_of_ble_eq_true rfl, Bd.c1 hb ea_9, Bd.s1 hb eb_10⟩ dJ6_removeFirst_1 rb_xX (rb_kX (rb_w (kc := (0 + k_6)) (ks := (0 + s_7)) rfl rfl ?_))
  have hb := Bd.ade hb ea_9 eb_10
  refine rb_astore_n (lv' := [(1, .ref r_4), (0, .ref o)]) C dJ6_removeFirst_4 rfl (by decide) rfl ?_
  refine rb_aload_n C dJ6_removeFirst_5 rfl 0 rfl ?_
  refine rb_ifnonnull (tgt := 17) C dJ6_removeFirst_6 (by decide) ?_
  refine rb_aload_n C dJ6_removeFirst_17 rfl 0 rfl ?_
  cases hf
  exact rb_aret C rfl (Or.inl ⟨_, rfl⟩) (Or.inr ⟨_, rfl⟩) hb.e.2.1 hb.e.2.2 dJ6_removeFirst_18 ⟨rfl, rfl, hb.e.1⟩
