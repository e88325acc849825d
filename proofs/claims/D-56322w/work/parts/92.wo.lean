set_option maxRecDepth 100000
set_option linter.unusedVariables false
/-! PLAIN LAW: AN EXPRESSION WITHOUT ONE OF ITS PAIRS IS AN EXPRESSION -/
section WO
theorem z_brk_pos : ∀ (r : List Nat) (d : Nat) (w : Bool) (p p' : Nat), z_brk r d w p = none → z_brk r d w p' = none
  | [], d, w, p, p', h => by
    simp only [z_brk] at h ⊢
    split at h
    · cases h
    · next c => rw [if_neg c]
  | c :: r, d, true, p, p', h => by
    simp only [z_brk] at h ⊢
    split at h
    · next c1 => rw [if_pos c1]; exact z_brk_pos r _ _ _ _ h
    · next c1 =>
      rw [if_neg c1]
      split at h
      · next c2 => rw [if_pos c2]; exact z_brk_pos r _ _ _ _ h
      · next c2 =>
        rw [if_neg c2]
        split at h
        · next c3 => rw [if_pos c3]; exact z_brk_pos r _ _ _ _ h
        · cases h
  | c :: r, d, false, p, p', h => by
    simp only [z_brk] at h ⊢
    split at h
    · next c1 => rw [if_pos c1]; exact z_brk_pos r _ _ _ _ h
    · next c1 =>
      rw [if_neg c1]
      split at h
      · next c2 => rw [if_pos c2]; exact z_brk_pos r _ _ _ _ h
      · cases h
theorem z_brk_cl : ∀ (r : List Nat) (d e : Nat) (w : Bool) (p p' : Nat), 1 ≤ e → z_brk r (d + e) w p = none → ∃ m, z_cl r e = some m ∧ z_brk (r.take (m - 1) ++ r.drop m) (d + e - 1) w p' = none
  | [], d, e, w, p, p', he, h => by
    simp only [z_brk] at h
    rw [if_pos (by rw [decide_eq_true (show 0 < d + e by omega), Bool.or_true])] at h
    cases h
  | c :: r, d, e, true, p, p', he, h => by
    simp only [z_brk] at h
    split at h
    · next c1 =>
      have n1 : c ≠ 40 := by rintro rfl; revert c1; decide
      have n2 : c ≠ 41 := by rintro rfl; revert c1; decide
      obtain ⟨m, h1, h2⟩ := z_brk_cl r d e false (p + 1) (p' + 1) he h
      have hm := (z_cl_le _ _ _ h1).1
      refine ⟨m + 1, by simp only [z_cl, if_neg n1, if_neg n2, h1]; rfl, ?_⟩
      obtain ⟨m0, rfl⟩ : ∃ m0, m = m0 + 1 := ⟨m - 1, by omega⟩
      simp only [Nat.add_sub_cancel, List.take_succ_cons, List.drop_succ_cons, List.cons_append] at h2 ⊢
      simp only [z_brk, if_pos c1]
      exact h2
    · next c1 =>
      split at h
      · next c2 =>
        have n1 : c ≠ 40 := by rintro rfl; revert c2; decide
        have n2 : c ≠ 41 := by rintro rfl; revert c2; decide
        obtain ⟨m, h1, h2⟩ := z_brk_cl r d e true (p + 1) (p' + 1) he h
        have hm := (z_cl_le _ _ _ h1).1
        refine ⟨m + 1, by simp only [z_cl, if_neg n1, if_neg n2, h1]; rfl, ?_⟩
        obtain ⟨m0, rfl⟩ : ∃ m0, m = m0 + 1 := ⟨m - 1, by omega⟩
        simp only [Nat.add_sub_cancel, List.take_succ_cons, List.drop_succ_cons, List.cons_append] at h2 ⊢
        simp only [z_brk, if_neg c1, if_pos c2]
        exact h2
      · next c2 =>
        split at h
        · next c3 =>
          obtain ⟨m, h1, h2⟩ := z_brk_cl r d (e + 1) true (p + 1) (p' + 1) (by omega) h
          have hm := (z_cl_le _ _ _ h1).1
          refine ⟨m + 1, by simp only [z_cl, if_pos c3, h1]; rfl, ?_⟩
          obtain ⟨m0, rfl⟩ : ∃ m0, m = m0 + 1 := ⟨m - 1, by omega⟩
          simp only [Nat.add_sub_cancel, List.take_succ_cons, List.drop_succ_cons, List.cons_append] at h2 ⊢
          simp only [z_brk, if_neg c1, if_neg c2, if_pos c3]
          rw [show d + e - 1 + 1 = d + (e + 1) - 1 by omega]
          exact h2
        · cases h
  | c :: r, d, e, false, p, p', he, h => by
    simp only [z_brk] at h
    split at h
    · next c1 =>
      have n1 : c ≠ 40 := by rintro rfl; revert c1; decide
      have n2 : c ≠ 41 := by rintro rfl; revert c1; decide
      obtain ⟨m, h1, h2⟩ := z_brk_cl r d e true (p + 1) (p' + 1) he h
      have hm := (z_cl_le _ _ _ h1).1
      refine ⟨m + 1, by simp only [z_cl, if_neg n1, if_neg n2, h1]; rfl, ?_⟩
      obtain ⟨m0, rfl⟩ : ∃ m0, m = m0 + 1 := ⟨m - 1, by omega⟩
      simp only [Nat.add_sub_cancel, List.take_succ_cons, List.drop_succ_cons, List.cons_append] at h2 ⊢
      simp only [z_brk, if_pos c1]
      exact h2
    · next c1 =>
      split at h
      · next c2 =>
        have n1 : c ≠ 40 := by have := c2.1; omega
        by_cases e1 : e = 1
        · subst e1
          refine ⟨1, by simp only [z_cl, if_neg n1, if_pos c2.1]; rfl, ?_⟩
          simp only [Nat.sub_self, List.take_zero, List.nil_append, List.drop_succ_cons, List.drop_zero]
          exact z_brk_pos _ _ _ _ _ h
        · obtain ⟨m, h1, h2⟩ := z_brk_cl r d (e - 1) false (p + 1) (p' + 1) (by omega) (by rw [show d + (e - 1) = d + e - 1 by omega]; exact h)
          have hm := (z_cl_le _ _ _ h1).1
          refine ⟨m + 1, by simp only [z_cl, if_neg n1, if_pos c2.1, if_neg e1, h1]; rfl, ?_⟩
          obtain ⟨m0, rfl⟩ : ∃ m0, m = m0 + 1 := ⟨m - 1, by omega⟩
          simp only [Nat.add_sub_cancel, List.take_succ_cons, List.drop_succ_cons, List.cons_append] at h2 ⊢
          simp only [z_brk, if_neg c1]
          rw [if_pos ⟨c2.1, by omega⟩, show d + e - 1 - 1 = d + (e - 1) - 1 by omega]
          exact h2
      · cases h
theorem z_brk_pre (B : List Nat) : ∀ (A : List Nat) (d : Nat) (w : Bool) (p : Nat), z_brk (A ++ 40 :: B) d w p = none → ∃ d', z_brk B (d' + 1) true 0 = none ∧ ∀ Y, z_brk Y d' true 0 = none → z_brk (A ++ Y) d w p = none
  | [], d, true, p, h => by
    simp only [List.nil_append, z_brk] at h
    rw [if_neg (by decide), if_neg (by decide), if_pos trivial] at h
    exact ⟨d, z_brk_pos _ _ _ _ _ h, fun Y hY => z_brk_pos _ _ _ _ _ hY⟩
  | [], d, false, p, h => by
    simp only [List.nil_append, z_brk] at h
    rw [if_neg (by decide), if_neg (by omega)] at h
    cases h
  | c :: A, d, true, p, h => by
    simp only [List.cons_append, z_brk] at h ⊢
    split at h
    · next c1 =>
      obtain ⟨d', h1, h2⟩ := z_brk_pre B A _ _ _ h
      exact ⟨d', h1, fun Y hY => by rw [if_pos c1]; exact h2 Y hY⟩
    · next c1 =>
      split at h
      · next c2 =>
        obtain ⟨d', h1, h2⟩ := z_brk_pre B A _ _ _ h
        exact ⟨d', h1, fun Y hY => by rw [if_neg c1, if_pos c2]; exact h2 Y hY⟩
      · next c2 =>
        split at h
        · next c3 =>
          obtain ⟨d', h1, h2⟩ := z_brk_pre B A _ _ _ h
          exact ⟨d', h1, fun Y hY => by rw [if_neg c1, if_neg c2, if_pos c3]; exact h2 Y hY⟩
        · cases h
  | c :: A, d, false, p, h => by
    simp only [List.cons_append, z_brk] at h ⊢
    split at h
    · next c1 =>
      obtain ⟨d', h1, h2⟩ := z_brk_pre B A _ _ _ h
      exact ⟨d', h1, fun Y hY => by rw [if_pos c1]; exact h2 Y hY⟩
    · next c1 =>
      split at h
      · next c2 =>
        obtain ⟨d', h1, h2⟩ := z_brk_pre B A _ _ _ h
        exact ⟨d', h1, fun Y hY => by rw [if_neg c1, if_pos c2]; exact h2 Y hY⟩
      · cases h
/-- a pair taken out of an expression -/
theorem z_wo_ok {T : List Nat} {i : Nat} (hb : z_brk T 0 true 0 = none) (hi : T[i]? = some 40) : ∃ m, z_cl (T.drop (i + 1)) 1 = some m ∧ z_brk (z_wo T i m) 0 true 0 = none := by
  have hil := getElem?_lt' hi
  have hT : T = T.take i ++ 40 :: T.drop (i + 1) := by
    have h1 : T.drop i = 40 :: T.drop (i + 1) := by
      rw [List.drop_eq_getElem_cons hil]
      rw [List.getElem?_eq_getElem hil] at hi
      rw [Option.some.injEq] at hi
      rw [hi]
    rw [← h1, List.take_append_drop]
  have hb' := hb
  rw [hT] at hb'
  obtain ⟨d', h1, h2⟩ := z_brk_pre _ _ _ _ _ hb'
  obtain ⟨m, h3, h4⟩ := z_brk_cl _ d' 1 true 0 0 (Nat.le_refl _) h1
  refine ⟨m, h3, ?_⟩
  have := h2 _ h4
  rw [List.drop_drop] at this
  unfold z_wo
  rw [List.append_assoc, show i + m + 1 = i + 1 + m by omega]
  exact this
theorem z_wo_mem {T : List Nat} {i m a : Nat} (h : a ∈ z_wo T i m) : a ∈ T := by
  unfold z_wo at h
  rcases List.mem_append.mp h with h | h
  · rcases List.mem_append.mp h with h | h
    · exact List.mem_of_mem_take h
    · exact List.mem_of_mem_drop (List.mem_of_mem_take h)
  · exact List.mem_of_mem_drop h
end WO
