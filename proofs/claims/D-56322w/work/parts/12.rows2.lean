set_option maxRecDepth 100000
set_option linter.unusedVariables false
theorem Bd.c1 {N C S n kc ks k a b a' : Nat} (x : Bd N C S n kc ks a b) (e : a = k + a') : kc + k ≤ C := by obtain ⟨h1, h2, h3⟩ := x; omega
theorem Bd.s1 {N C S n kc ks s a b b' : Nat} (x : Bd N C S n kc ks a b) (e : b = s + b') : ks + s ≤ S := by obtain ⟨h1, h2, h3⟩ := x; omega
theorem Bd.ade {N C S n kc ks k s a b a' b' : Nat} (x : Bd N C S n kc ks a b) (e1 : a = k + a') (e2 : b = s + b') : Bd N C S (n + k) (kc + k) (ks + s) a' b' := by
  obtain ⟨h1, h2, h3⟩ := x
  exact ⟨by omega, by omega, by omega⟩
/-- a name for a thing -/
def rb_lt {α β : Type} (x : α) (f : α → β) : β := f x
theorem rb_let {α β : Type} {x z : α} {f : α → β} {y : β} (h : rb_lt x f = y) (e : z = x) : f z = y := by subst e; exact h
/-- classes whose objects go into lists -/
def obL : List Nat := [1, 3, 18, 19]
section R2
variable {Ev : rb_E} {X : WX} {R : Room} {own : String} {cc : ByteArray} {nl : Nat} {rt : Option FieldType} {tb : List ExceptionTableEntry} {hh : AH} {nn kc ks : Nat} {Q : State → Prop} {pc : Nat} {lc : List (Nat × Value)} {rest : List Value}
theorem rb_w {kc' ks' : Nat} {st : List Value} (e1 : kc' = kc) (e2 : ks' = ks) (k : Wa Ev X R nl hh nn kc ks Q pc lc st) : Wa Ev X R nl hh nn kc' ks' Q pc lc st := by subst e1; subst e2; exact k
theorem rb_wX {kc' ks' : Nat} {E : String} {q : Nat} (e1 : kc' = kc) (e2 : ks' = ks) (k : WaX Ev X R nl hh nn kc ks Q pc lc E q) : WaX Ev X R nl hh nn kc' ks' Q pc lc E q := by subst e1; subst e2; exact k
/-- the name of an array class -/
def AnN (t : Nat) (nm : String) : Prop := ∀ (Ev : rb_E) (s : State), va_K (eD Ev) rb_CL (rb_TY Ev) s → s.vm.findClass nm = some (eA Ev t)
theorem an_i : AnN 0 "[I" := fun Ev s hK => (hK.2 0 _ rfl).2
theorem an_z : AnN 2 "[Z" := fun Ev s hK => (hK.2 2 _ rfl).2
theorem an_c : AnN 3 "[C" := fun Ev s hK => (hK.2 3 _ rfl).2
theorem an_l : AnN 4 "[J" := fun Ev s hK => (hK.2 4 _ rfl).2
theorem an_d : AnN 5 "[D" := fun Ev s hK => (hK.2 5 _ rfl).2
theorem an_b : AnN 1 "[B" := fun Ev s hK => (hK.2 1 _ rfl).2
theorem an_o : AnN 6 "[Ljava/lang/Object;" := fun Ev s hK => va_nmO (hK.2 6 _ rfl).2 rfl
theorem an_m : AnN 7 "[LRainbowOperators$Meaning;" := fun Ev s hK => va_nmO (hK.2 7 _ rfl).2 rfl
theorem rb_hcaA (C : Cx Ev X own cc nl rt tb) {q index n : Nat} {nm : String} (t : Nat) (hl : Cond.classLink own index nm ∈ lw_all) (hn : AnN t nm) (e : hp_len Ev hh q t = some n) (hdg : decode cc pc = .ok (.checkcast index, 3)) (k : Wa Ev X R nl hh nn kc ks Q (pc + 3) lc (.ref q :: rest)) : Wa Ev X R nl hh nn kc ks Q pc lc (.ref q :: rest) := by
  obtain ⟨f, h1⟩ := hp_len_at e
  exact fun H locs ls hM hz hla => va_castA C.1 C.2.1 C.2.2.2.1 (C.2.2.2.2.1 _ hl) (rb_P1 ((rd_at C.pf h1).of hM)) 0 rfl (hn Ev _ C.2.2.2.2.2.1.1) hdg (k H locs ls hM hz hla)
theorem rb_ldcM (C : Cx Ev X own cc nl rt tb) {index : Nat} (hl : Cond.classLink own index "[Ljava/lang/Object;" ∈ lw_all) (hdg : decode cc pc = .ok (.ldc index, 2)) (k : Wa Ev X R nl hh nn kc ks Q (pc + 2) lc (.ref (eM Ev) :: rest)) : Wa Ev X R nl hh nn kc ks Q pc lc rest :=
  fun H locs ls hM hz hla => va_ldcM C.1 C.2.1 C.2.2.2.1 (C.2.2.2.2.1 _ hl) C.2.2.2.2.2.1.2.2.2.2.2.2.2.1 hdg (k H locs ls hM hz hla)
theorem rb_hthrow (C : Cx Ev X own cc nl rt tb) {q ci : Nat} {u : Unit} {E : String} {T : u_T} {N : Nat} {ty : Nat → FieldType} (ck : CK ci E T N ty) (e : hp_k Ev hh q ci = some u) (hdg : decode cc pc = .ok (.athrow, 1)) (k : WaX Ev X R nl hh nn kc ks Q pc lc E q) : Wa Ev X R nl hh nn kc ks Q pc lc (.ref q :: rest) := by
  obtain ⟨fs, h1⟩ := hp_cls_at (hp_k_at e)
  intro H locs ls hM hz hla
  obtain ⟨r, g1, cell, q1, q2, q3, q4⟩ := (rd_at C.pf h1).of hM
  obtain ⟨hS, hfc, kC, hkC, hkind⟩ := C.2.2.2.2.2.1.1.1 ci _ ck.1
  cases Option.some.inj (g1.symm.trans ck.1)
  exact vy_athrow C.1 C.2.1 hdg (k H locs ls cell _ hM hz hla q1 q3 (by rw [q2]; exact hfc))
/-- private methods of a class above -/
def SP (own : String) (idx : Nat) (Cr : String) (y : MethodName) : Prop := Cond.methodLink own idx y ∈ lw_all ∧ Cond.sameMethod y.cls y.cls y.name y.desc ∈ lw_all ∧ (Cr, y) ∈ rb_ps ∧ Cond.instanceMethod y ∈ lw_all
theorem rb_callVP (C : Cx Ev X own cc nl rt tb) {y : MethodName} {b : ByteArray} {L n idx q : Nat} {r : Option FieldType} {rm : Room} {post : rb_R → AH → Nat → Prop} {As st : List Value} {Cr : String} (mi : MIc y b L r n) (sl : SP own idx Cr y) (hq : IsC Ev hh q Cr) (hc : Ct Ev y (ws_ y b L r) rm (.ref q :: As) hh nn post) (hn : As.length = n) (hst : st = As.reverse ++ .ref q :: rest) (hW : (rest.map fun v => v.category).sum ≤ 8) (hR : RmOk R kc ks L rm) (hdg : decode cc pc = .ok (.invokevirtual idx, 3))
    (kx : ∀ (E : String) (q : Nat) (h' : AH) (n' : Nat), nn ≤ n' → post (.inr (E, q)) h' n' → WaX Ev X R nl h' n' (kc + rm.cells) (ks + rm.slots) Q pc lc E q)
    (kk : ∀ (v : Option Value) (h' : AH) (n' : Nat), nn ≤ n' → post (.inl v) h' n' → Wa Ev X R nl h' n' (kc + rm.cells) (ks + rm.slots) Q (pc + 3) lc (v.toList ++ rest)) : Wa Ev X R nl hh nn kc ks Q pc lc st := by
  obtain ⟨s1, s2, s3, s4⟩ := sl
  have hsel := va_Nw.use (A := X.2.2.2.2.2.1) rfl (C.2.2.2.2.2.1.2.2.2.2.2.2.2.2.1.2.1 _ s3)
  have hG : GoodIn lw_all (ws_ y b L r) := lw_meth mi.1
  have hcm : Cond.code y b L r ∈ ws_ y b L r := List.mem_cons_self
  have hts := C.2.2.2.2.1
  refine fun H locs ls hM hz hla => rb_cont hM hz hla (vy_runU (As := As) (Ts := lw_all) ⟨C.1, C.2.1, C.2.2.1, C.2.2.2.1, C.2.2.2.2.1⟩ (hc X.2.1 C.2.2.2.2.2.2.1) (x := y) (owner := y.cls) (C := Cr) (mc := rm.cells) (ms := rm.slots) (index := idx) (n := n) ⟨⟨rfl, rfl, hR.1, hR.2.1, pay_in hts hG, hcm⟩, hts _ mi.1, hts _ mi.2.1, ⟨mi.2.2.1, mi.2.2.2.1⟩, fun sig h => ?_, hts _ s1, hts _ s2, va_Decl.of (hts _ s4) (hts _ mi.1), hsel, hts _ s4⟩ ⟨rb_blind, hq.recv C.2.2.2.2.2.1 hM, fun U hU hW => ⟨rfl, GE.warm hW C.2.2.2.2.2.1, by rw [hU]; exact hM⟩⟩ rfl hn hla.1 hst (by show 2 * 0 + _ ≤ _; omega) hdg hR.2.2) kx kk
  have h2 := mi.2.2.2.2
  rw [h] at h2
  exact (Option.some.inj h2).symm
/-- an overriding method: what the reference names is another method's code -/
def SO (own : String) (idx : Nat) (Cr : String) (x y : MethodName) : Prop := Cond.methodLink own idx x ∈ lw_all ∧ Cond.sameMethod x.cls x.cls x.name x.desc ∈ lw_all ∧ Cond.selects Cr x y ∈ lw_all ∧ Cond.instanceMethod y ∈ lw_all ∧ (Cond.declares x ∈ lw_tbl ∨ (Cond.instanceMethod x ∈ lw_all ∧ ∃ (b : ByteArray) (m : Nat) (r : Option FieldType), Cond.code x b m r ∈ lw_all)) ∧ x.cls ≠ "java/lang/invoke/MethodHandle" ∧ x.cls ≠ "java/lang/invoke/VarHandle" ∧ (parseMethodDescriptor x.desc) = parseMethodDescriptor y.desc
theorem rb_callVO (C : Cx Ev X own cc nl rt tb) {x y : MethodName} {b : ByteArray} {L n idx q : Nat} {r : Option FieldType} {rm : Room} {post : rb_R → AH → Nat → Prop} {As st : List Value} {Cr : String} (mi : MIc y b L r n) (sl : SO own idx Cr x y) (hq : IsC Ev hh q Cr) (hc : Ct Ev y (ws_ y b L r) rm (.ref q :: As) hh nn post) (hn : As.length = n) (hst : st = As.reverse ++ .ref q :: rest) (hW : (rest.map fun v => v.category).sum ≤ 8) (hR : RmOk R kc ks L rm) (hdg : decode cc pc = .ok (.invokevirtual idx, 3))
    (kx : ∀ (E : String) (q : Nat) (h' : AH) (n' : Nat), nn ≤ n' → post (.inr (E, q)) h' n' → WaX Ev X R nl h' n' (kc + rm.cells) (ks + rm.slots) Q pc lc E q)
    (kk : ∀ (v : Option Value) (h' : AH) (n' : Nat), nn ≤ n' → post (.inl v) h' n' → Wa Ev X R nl h' n' (kc + rm.cells) (ks + rm.slots) Q (pc + 3) lc (v.toList ++ rest)) : Wa Ev X R nl hh nn kc ks Q pc lc st := by
  obtain ⟨s1, s2, s3, s4, s5, s6, s7, s8⟩ := sl
  have hdl : va_Decl X.2.2.2.1 x := by
    rcases s5 with s5 | ⟨a1, b1, m1, r1, a2⟩
    · exact va_Decl.abs (C.2.2.2.2.2.1.2.2.2.1 _ s5 rfl)
    · exact va_Decl.of (C.2.2.2.2.1 _ a1) (C.2.2.2.2.1 _ a2)
  have hG : GoodIn lw_all (ws_ y b L r) := lw_meth mi.1
  have hcm : Cond.code y b L r ∈ ws_ y b L r := List.mem_cons_self
  have hts := C.2.2.2.2.1
  refine fun H locs ls hM hz hla => rb_cont hM hz hla (vy_runU (As := As) (Ts := lw_all) ⟨C.1, C.2.1, C.2.2.1, C.2.2.2.1, C.2.2.2.2.1⟩ (hc X.2.1 C.2.2.2.2.2.2.1) (x := x) (owner := x.cls) (C := Cr) (mc := rm.cells) (ms := rm.slots) (index := idx) (n := n) ⟨⟨rfl, rfl, hR.1, hR.2.1, pay_in hts hG, hcm⟩, hts _ mi.1, hts _ mi.2.1, ⟨s6, s7⟩, fun sig h => ?_, hts _ s1, hts _ s2, hdl, hts _ s3, hts _ s4⟩ ⟨rb_blind, hq.recv C.2.2.2.2.2.1 hM, fun U hU hW => ⟨rfl, GE.warm hW C.2.2.2.2.2.1, by rw [hU]; exact hM⟩⟩ rfl hn hla.1 hst (by show 2 * 0 + _ ≤ _; omega) hdg hR.2.2) kx kk
  have h2 := mi.2.2.2.2
  rw [← s8, h] at h2
  exact (Option.some.inj h2).symm
end R2
