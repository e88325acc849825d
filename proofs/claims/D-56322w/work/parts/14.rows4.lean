set_option maxRecDepth 100000
set_option linter.unusedVariables false
section R4
variable {Ev : rb_E} {X : WX} {R : Room} {own : String} {cc : ByteArray} {nl : Nat} {rt : Option FieldType} {tb : List ExceptionTableEntry} {hh : AH} {nn kc ks : Nat} {Q : State → Prop} {pc : Nat} {lc : List (Nat × Value)} {rest : List Value}
theorem rb_words (C : Cx Ev X own cc nl rt tb) {L : List Cond} (h : ∀ w ∈ L, w ∈ lw_tbl) (hk : ∀ w ∈ L, (goodWord w || (rb_nwk w && w.onTables)) = true) : ∀ w ∈ L, w.before X.2.2.2.2.2.1 X.2.2.2.1 = true := by
  intro w hw
  have h1 := hk w hw
  rw [Bool.or_eq_true] at h1
  rcases h1 with h1 | h1
  · exact C.2.2.2.2.1 _ (lw_g (h w hw) h1)
  · rw [Bool.and_eq_true] at h1
    exact va_Nw.use h1.2 (C.2.2.2.2.2.1.2.2.2.1 _ (h w hw) h1.1)
theorem rb_hthrow0 (C : Cx Ev X own cc nl rt tb) {rm : Room} {post : rb_R → AH → Nat → Prop} {ik ic : Nat} {cls : String} {names : List String} (tz : TZ own ik ic cls names) (tk : ∀ w ∈ Cond.classLink own ik cls :: Cond.initialized cls :: vy_at0 own ic cls names, (goodWord w || (rb_nwk w && w.onTables)) = true) (d0 : decode cc pc = .ok (.new ik, 3)) (d3 : decode cc (pc + 3) = .ok (.dup, 1)) (d4 : decode cc (pc + 4) = .ok (.invokespecial ic, 3)) (d7 : decode cc (pc + 7) = .ok (.athrow, 1)) (hout : ∀ x ∈ tb, covers x (pc + 7) = false) (hRf : names.length + 3 < rm.frames) (hRl : (rest.map fun v => v.category).sum + (13 * (names.length + 1) + 42) ≤ rm.locals) (hc : kc + 1 ≤ rm.cells) (hs : ks + 6 ≤ rm.slots) (hp : post (.inr (cls, nn)) hh (nn + 1)) : Wa Ev X rm nl hh nn kc ks (rb_MQ Ev X rm post) pc lc rest := by
  intro H locs ls hM hz hla T hT Y
  obtain ⟨t1, t2, t3, t4, t5, t6⟩ := tz
  have hsz : X.2.2.2.1.heap.size ≤ nn := by rw [← hM.1, ← hT]; exact Y.same.2.1
  have hW := rb_words C (L := Cond.classLink own ik cls :: Cond.initialized cls :: vy_at0 own ic cls names) (fun w hw => by
    rcases List.mem_cons.mp hw with rfl | hw
    · exact t3
    · rcases List.mem_cons.mp hw with rfl | hw
      · exact t4
      · exact t5 w hw) tk
  have hG := C.2.2.2.2.2.1
  have hB := C.2.2.2.2.2.2.2.2.2.2
  have hkp : ∀ a : Nat, a < (eH Ev).size → ¬ rb_A Ev a → X.2.2.2.1.heap[a]? = (eH Ev)[a]? := fun a h1 _ => hB.2 a h1
  refine vy_throw0 C.1 C.2.1 C.2.2.2.2.2.2.1 C.2.2.2.1 t1 t2 (hW _ List.mem_cons_self) (hW _ (List.mem_cons_of_mem _ List.mem_cons_self)) (fun w hw => hW w (List.mem_cons_of_mem _ (List.mem_cons_of_mem _ hw))) t6 (A := rb_A Ev) (hG.2.2.2.2.2.2.2.2.1.2.2.1.kept hkp) (hG.2.2.2.2.2.2.2.2.1.2.2.2.kept hkp) ⟨by rw [hM.1]; exact hsz, fun y h1 h2 => ?_, fun z h => hz z h⟩ (by rw [C.2.2.1]; exact hla.1) d0 d3 d4 d7 (by rw [C.2.2.2.2.2.2.2.2.2.1]; exact hout) hRf hRl hc hs C.2.2.2.2.2.2.2.1 (fun t h1 h2 h3 => ?_) (fun z h => hz z h) hc hs T hT Y
  · have h4 : y < (eH Ev).size := Nat.not_le.mp h2
    rw [hM.2.2.1 y h4, hB.2 y h4]
  · refine ⟨hh, nn + 1, ⟨by rw [h2, hM.1], ⟨by have := hM.2.1.1; omega, fun q e c hq hc => hM.2.1.2 q e c hq (by rw [← h3 q (by rw [hM.1]; exact hM.lt hq)]; exact hc)⟩, fun q hq => ?_, fun q e hq => ⟨(hM.2.2.2 q e hq).1, (hM.2.2.2 q e hq).2.kept (h3 q (by rw [hM.1]; exact hM.lt hq))⟩⟩, by omega, by rw [hM.1]; exact hp⟩
    rw [h3 q (by rw [hM.1]; have := hM.2.1.1; omega)]
    exact hM.2.2.1 q hq
/-- the meanings' arrays -/
def hp_cpe (Ev : rb_E) (h : AH) (t : Nat) (src : Nat) (sp : Int32) (dst : Nat) (dp n : Int32) : Option AH := match rd Ev h src, h dst with
  | some (.inl (c0, n0, .inr (.inr (.inr (.inr f))))), some (.inl (c1, n1, .inr (.inr (.inr (.inr g))))) =>
    if (c0 = eA Ev t ∧ c1 = eA Ev t ∧ ¬ sp < 0 ∧ ¬ dp < 0 ∧ ¬ n < 0 ∧ sp.toNatClampNeg + n.toNatClampNeg ≤ n0 ∧ dp.toNatClampNeg + n.toNatClampNeg ≤ n1) ∧ (∀ i, i < n.toNatClampNeg → ((f (sp.toNatClampNeg + i)).all fun y => (hp_en Ev y).isSome) = true)
    then some (va_up h dst (some (.inl (c1, n1, aQ (va_cpy f g sp.toNatClampNeg dp.toNatClampNeg n.toNatClampNeg))))) else none
  | _, _ => none
theorem rb_hcpe (C : Cx Ev X own cc nl rt tb) {idx a0 a : Nat} (t : Nat) {Ce : String} {sp dp n : Int32} {h1 : AH} (l1 : Cond.methodLink own idx arraycopyName ∈ lw_all) (l2 : Cond.native arraycopyName ∈ lw_all) (l3 : Cond.static arraycopyName ∈ lw_all) (l4 : Cond.initialized "java/lang/System" ∈ lw_all) (ht : (rb_TY Ev)[t]? = some (eA Ev t, .object Ce)) (hL : ∀ k, k < 6 → Cond.castable (rb_En k) Ce ∈ lw_tbl) (e : hp_cpe Ev hh t a0 sp a dp n = some h1) (hf : 1 ≤ R.frames) (hlo : (rest.map fun v => v.category).sum + (nativeFrameWords "java/lang/System" "arraycopy" 5 + 11) ≤ R.locals) (hdg : decode cc pc = .ok (.invokestatic idx, 3)) (kk : Wa Ev X R nl h1 nn kc ks Q (pc + 3) lc rest) : Wa Ev X R nl hh nn kc ks Q pc lc (.int n :: .int dp :: .ref a :: .int sp :: .ref a0 :: rest) := by
  unfold hp_cpe at e
  split at e
  · next c0 n0 f c1 n1 g e0 e1 =>
    split at e
    · next hc =>
      obtain ⟨⟨rfl, rfl, b1, b2, b3, b4, b5⟩, b6⟩ := hc
      cases e
      refine rb_copyM C t t l1 l2 l3 l4 ht ht (rd_at C.pf e0) e1 b1 b2 b3 b4 b5 (fun i hi y hy => ?_) hf hlo hdg fun h' z1 z2 => by rw [hp_upq z1 z2]; exact kk
      have b7 := b6 i hi
      rw [hy] at b7
      obtain ⟨k, hk⟩ := Option.isSome_iff_exists.mp (show (hp_en Ev y).isSome = true from b7)
      obtain ⟨g1, g2⟩ := hp_en_at hk
      exact ⟨rb_En k, Or.inr ⟨k, g1, g2, rfl⟩, hL k g1⟩
    · cases e
  · cases e
theorem hp_en_isC {q k : Nat} (e : hp_en Ev q = some k) : IsC Ev hh q (rb_En k) := by
  obtain ⟨g1, g2⟩ := hp_en_at e
  exact Or.inr ⟨k, g1, g2, rfl⟩
/-- the place of a meaning, read from its object -/
theorem rb_getE (C : Cx Ev X own cc nl rt tb) {q k index : Nat} (hl : Cond.fieldLink own index "java/lang/Enum" "ordinal" "I" ∈ lw_all) (e : hp_en Ev q = some k) (hdg : decode cc pc = .ok (.getfield index, 3)) (kk : Wa Ev X R nl hh nn kc ks Q (pc + 3) lc (.int (nI k) :: rest)) : Wa Ev X R nl hh nn kc ks Q pc lc (.ref q :: rest) := by
  obtain ⟨g1, rfl⟩ := hp_en_at e
  intro H locs ls hM hz hla
  have hB := C.2.2.2.2.2.2.2.2.2.2
  have hE := (C.2.2.2.2.2.1.2.2.2.2.1 k g1).2
  obtain ⟨cf, kf, fi, f, cell, h1, h2, h3, h4, h5, h6⟩ := hE
  exact W.getf C.1 C.2.1 C.2.2.2.1 (C.2.2.2.2.1 _ hl) h1 h2 (by rw [hM.2.2.1 _ (Nat.not_le.mp h6)]; exact h3) h4 (v := .int (nI k)) h5 rfl rfl hdg (kk H locs ls hM hz hla)
end R4
