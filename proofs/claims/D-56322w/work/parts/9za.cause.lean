set_option maxRecDepth 100000
set_option linter.unusedVariables false
def gcN : MethodName := ⟨"java/lang/Throwable", "getCause", "()Ljava/lang/Throwable;"⟩
/-- the words of a call of getCause() on an object of the class rc -/
def GZ (own : String) (idx : Nat) (rc : String) (b : ByteArray) : Prop := Cond.methodLink own idx ⟨rc, "getCause", "()Ljava/lang/Throwable;"⟩ ∈ lw_all ∧ Cond.sameMethod rc "java/lang/Throwable" "getCause" "()Ljava/lang/Throwable;" ∈ lw_all ∧ Cond.selects rc ⟨rc, "getCause", "()Ljava/lang/Throwable;"⟩ gcN ∈ lw_all ∧ Cond.instanceMethod gcN ∈ lw_all ∧ Cond.codeSync gcN b 1 (some (.object "java/lang/Throwable")) ∈ lw_all
/-- its bytes -/
def GB (b : ByteArray) : Prop := decode b 0 = .ok (.aload_n 0, 1) ∧ decode b 1 = .ok (.getfield 7, 3) ∧ decode b 4 = .ok (.aload_n 0, 1) ∧ decode b 5 = .ok (.if_acmp .ne 7, 3) ∧ decode b 12 = .ok (.aload_n 0, 1) ∧ decode b 13 = .ok (.getfield 7, 3) ∧ decode b 16 = .ok (.areturn, 1)
section R8
variable {Ev : rb_E} {X : WX} {R : Room} {own : String} {cc : ByteArray} {nl : Nat} {rt : Option FieldType} {tb : List ExceptionTableEntry} {hh : AH} {nn kc ks : Nat} {Q : State → Prop} {pc : Nat} {lc : List (Nat × Value)} {rest : List Value}
theorem rb_hcause (C : Cx Ev X own cc nl rt tb) {q ci kC idx : Nat} {rc rc2 : String} {T : u_T} {N : Nat} {ty : Nat → FieldType} {fs : List Value} {o : Option Nat} {b : ByteArray} (ck : CK ci rc T N ty) (fz : FZ rc2) (gz : GZ own idx rc b) (gb : GB b) (hkC : kC < N) (tC : (T kC).1 = Bundle.tN ∧ (T kC).2.1 = "cause" ∧ (T kC).2.2.1 = "Ljava/lang/Throwable;") (e0 : hh q = some (.inr (ci, fs))) (e1 : fs[kC]? = some (va_rf o)) (hne : o ≠ some q) (hf : 3 ≤ R.frames) (hlo : (rest.map fun v => v.category).sum + 42 ≤ R.locals) (hdg : decode cc pc = .ok (.invokevirtual idx, 3)) (k : Wa Ev X R nl hh nn kc ks Q (pc + 3) lc (va_rf o :: rest)) : Wa Ev X R nl hh nn kc ks Q pc lc (.ref q :: rest) := by
  intro H locs ls hM hz hla Tm hT Y
  have hG := C.2.2.2.2.2.1
  have hB := C.2.2.2.2.2.2.2.2.2.2
  have hts := C.2.2.2.2.1
  have hkp : ∀ a : Nat, a < (eH Ev).size → ¬ rb_A Ev a → X.2.2.2.1.heap[a]? = (eH Ev)[a]? := fun a h1 _ => hB.2 a h1
  have hU := hG.2.2.2.2.2.2.2.2.1.2.2.1.kept hkp
  have hN := hG.2.2.2.2.2.2.2.2.1.2.2.2.kept hkp
  have W : ∀ w ∈ fillW rc2, w.before X.2.2.2.2.2.1 X.2.2.2.1 = true := vy_own (rb_words C fz.1 fz.2) (vy_isRefq hU.1) (vy_isRefq hN.1) hU.2.word hN.2.word
  have howns : X.2.2.1.platform.frameOwnsMonitors = true := by rw [Y.admits.platform]
  have hfin : X.2.2.1.platform.finalization = false := by rw [Y.admits.platform]
  have hpl : X.2.2.1.platform.magicAccessors = ({} : Platform).magicAccessors := by rw [Y.admits.platform]
  obtain ⟨Tc, Z0, L, -, Yt⟩ := ThrowableC.of_atoms (args := X.2.2.2.2.2.1) howns hfin hpl (fun w hw => W w (List.mem_append_left _ hw))
  obtain ⟨hck, hin, hty, hnm⟩ := ck
  obtain ⟨r, g1, cell, q1, q2, q3, q4⟩ := (hM.2.2.2 q _ e0).2
  cases Option.some.inj (g1.symm.trans hck)
  obtain ⟨hS, hfc, kCl, hkCl, hkind⟩ := hG.1.1 ci _ hck
  have hfound : X.2.2.2.1.vm.findClass rc = some cell.cls := by rw [q2]; exact hfc
  have hmon : cell.monitor = {} := hM.2.1.2 q _ cell e0 q1
  obtain ⟨cfC, kfC, fiC, fC, hiC, slC⟩ := hS kC hkC
  rw [tC.1, tC.2.1, tC.2.2] at hiC
  cases hiC.symm.trans Yt.cause
  have hv : cell.slots[Tc.fCause.slot]? = some (va_rf o) := by
    rw [slC, q4 kC hkC]
    simp [vp_V, e1]
  -- the method
  obtain ⟨z1, z2, z3, z4, z5⟩ := gz
  obtain ⟨b0, b1, b4, b5, b12, b13, b16⟩ := gb
  obtain ⟨mg, methG, hnamed, hmethG, hstG, habG⟩ := Cond.instanceMethod_spec (hts _ z4)
  obtain ⟨methG', cG, hmethG', hcodeG, hbytesG, hlocG, hretG, hlockG, -, hsigG⟩ := Cond.codeSync_spec hnamed (hts _ z5)
  cases hmethG.symm.trans hmethG'
  obtain ⟨cn, ckn, r1, hcn, hckn, hni, hfn, hn1⟩ := Cond.sameMethod_found (hts _ z2)
  cases hnamed.symm.trans hn1
  have hcls : mg.cls = Tc.cT := Option.some.inj ((findClass_of_methodNamed hnamed).symm.trans Yt.found)
  obtain ⟨c2, r2, m2, p1, p2, p3, p4, kP, hkP, hkPi⟩ := Cond.selects_spec (hts _ z3)
  cases Option.some.inj (p1.symm.trans hfound)
  cases Option.some.inj (hfn.symm.trans p2)
  cases Option.some.inj (hnamed.symm.trans p3)
  have hselP : selectMethod X.2.2.1.platform X.2.2.2.1.vm cell.cls mg = .method mg := by rw [Launch.admits_selectMethod Y.admits]; exact p4
  have hcellT : Tm.heap[q]? = some cell := by rw [hT]; exact q1
  obtain ⟨vm₁, Y₁, hstep₁⟩ := Y.invokevirtualUp C.1 C.2.2.2.1 (hts _ z1) (hts _ z2) (by decide) hnamed hmethG hstG (a := q) (cell := cell) hcellT (fun z h => by rw [q3] at h; cases h) hselP hmethG habG hkP hkPi (g := F0 X.2.2.2.2.1 pc ls (.ref q :: rest)) rfl (argsL := []) (rest := rest) (by
      have h9 : parseMethodDescriptor gcN.desc = some methG.sig := hsigG
      have h8 : (parseMethodDescriptor gcN.desc).map (fun d => d.parameters.length) = some 0 := by decide +kernel
      rw [h9] at h8
      exact (Option.some.inj h8).symm) rfl (by rw [C.2.1]; exact hdg)
  have h : Jvm.At (Tm.setVm vm₁) (F0 X.2.2.2.2.1 pc ls rest).method X.2.2.2.2.2.2.2.2 X.2.2.2.2.2.2.1 := Y₁.here
  have hsize : (F0 X.2.2.2.2.1 pc ls rest).locals.size = X.2.2.2.2.2.2.2.2.maxLocals := by rw [C.2.2.1]; exact hla.1
  have hfr' := Y₁.framesAbove (n := 2) (by omega)
  have hwd' := Y₁.stackAbove (g := F0 X.2.2.2.2.1 pc ls rest) hsize (K := 42) (by show 2 * 0 + (rest.map fun v => v.category).sum + 42 ≤ R.locals; omega)
  obtain ⟨g₀, hg0⟩ := Option.isSome_iff_exists.mp h.top
  obtain ⟨tl0, htl0⟩ := State.topJava?_eq_some.mp hg0
  have hlen0 : (Tm.setVm vm₁).frames.length = (Frame.java (F0 X.2.2.2.2.1 pc ls rest) :: (Tm.setVm vm₁).frames.tail).length := by rw [htl0]; rfl
  have hfg : ((Tm.setVm vm₁).setTop (F0 X.2.2.2.2.1 pc ls rest)).frames = [] ++ (Frame.java (F0 X.2.2.2.2.1 pc ls rest) :: (Tm.setVm vm₁).frames.tail) := by rw [State.frames_setTop _ htl0, htl0]; rfl
  have hroom := roomAbove (pl := X.2.2.1.platform) (pushed := []) (base := Frame.java (F0 X.2.2.2.2.1 pc ls rest) :: (Tm.setVm vm₁).frames.tail) (vars := 1 + 2) (free := 42) (lim := X.2.2.1.platform.stackLimits (Tm.setVm vm₁).me) hfg (State.stackLimits_setTop _ h.top (F0 X.2.2.2.2.1 pc ls rest)) (by rw [← hlen0]; simp only [List.length_nil]; omega) hwd' (by simp only [stackUse_nil]; omega)
  have hW1 : X.2.2.2.1.WarmedH (Tm.setVm vm₁).vm := Y₁.warmed
  have hplain : X.2.2.2.1.plainMethod mg := State.plainMethod.of_named (s := X.2.2.2.1) (plainFor_of_name (x := gcN) (by decide)) hnamed hmethG
  have hplain' : ∀ k, X.2.2.2.1.vm.classes[mg.cls]? = some k → plainName k.name = true := by rw [hcls]; exact L.plain
  have hAof : ∀ vm, X.2.2.2.1.WarmedH vm → Jvm.At (fillInside ((Tm.setVm vm₁).setVm vm) (F0 X.2.2.2.2.1 pc ls rest) mg q cell) mg cG X.2.2.2.2.2.2.1 := fun vm hWv => by
    have h3 := At.enter_sync (g := F0 X.2.2.2.2.1 pc ls rest) (h.setVm (hW1.alike.symm.trans hWv.alike)) #[.ref q] q (cell.withEntry (Tm.setVm vm₁).cur) (hWv.methodAt hmethG) hcodeG (hWv.plainAt (m := mg) hplain')
    rw [hlocG] at h3
    exact h3
  have hlt : q < Tm.heap.size := (Array.getElem?_eq_some_iff.mp hcellT).1
  have hcellU : ∀ vm, (fillInside ((Tm.setVm vm₁).setVm vm) (F0 X.2.2.2.2.1 pc ls rest) mg q cell).heap[q]? = some (cell.withEntry (Tm.setVm vm₁).cur) := fun vm => by
    show (Tm.heap.setIfInBounds q (cell.withEntry Tm.cur))[q]? = _
    simp [hlt]
  have hlk := hcls ▸ L.link7
  obtain ⟨vm2, hW2, st2⟩ := Steps.getfieldCold (tb := X.1.tables) (s₀ := X.2.2.2.1) (U := fillInside (Tm.setVm vm₁) (F0 X.2.2.2.2.1 pc ls rest) mg q cell) (f := fillJ mg q 1 [.ref q]) (a := q) (rest := []) (cell := cell.withEntry (Tm.setVm vm₁).cur) (v := va_rf o) (hAof vm₁ hW1) C.1 (by rw [hbytesG]; exact b1) hW1 (by show X.2.2.2.1.vm.FieldLinks _ mg.cls 7 _ _ _; rw [hcls]; exact L.link7) (by show X.2.2.2.1.rightAt mg.cls 7 _ = true; rw [hcls]; exact L.right7) L.cls L.at7 L.causeInstance rfl (hcellU vm₁) (by show cell.vm ≠ _; rw [q3]; exact fun h => by cases h) hv
  obtain ⟨vm3, hW3, st3⟩ := Steps.getfieldCold (tb := X.1.tables) (s₀ := X.2.2.2.1) (U := fillInside ((Tm.setVm vm₁).setVm vm2) (F0 X.2.2.2.2.1 pc ls rest) mg q cell) (f := fillJ mg q 13 [.ref q]) (a := q) (rest := []) (cell := cell.withEntry (Tm.setVm vm₁).cur) (v := va_rf o) (hAof vm2 hW2) C.1 (by rw [hbytesG]; exact b13) hW2 (by show X.2.2.2.1.vm.FieldLinks _ mg.cls 7 _ _ _; rw [hcls]; exact L.link7) (by show X.2.2.2.1.rightAt mg.cls 7 _ = true; rw [hcls]; exact L.right7) L.cls L.at7 L.causeInstance rfl (hcellU vm2) (by show cell.vm ≠ _; rw [q3]; exact fun h => by cases h) hv
  obtain ⟨t, k1, k2⟩ := k H locs ls hM hz hla ((Tm.setVm vm₁).setVm vm3) hT (Y₁.noted hW3)
  refine ⟨t, hstep₁ _ fun acts => ?_, k2⟩
  show Steps X.1.tables X.2.2.1 X.2.2.2.2.2.2.1 (doInvoke X.2.2.1 ((Tm.setVm vm₁).setTop (F0 X.2.2.2.2.1 pc ls rest)) acts mg #[.ref q]).1 t
  rw [doInvoke_enter_sync h.top acts (hW1.methodAt hmethG) hcodeG hlockG hstG rfl hcellT (Or.inl (by rw [hmon])) (by rw [hlocG]; exact hroom)]
  rw [hlocG]
  show Steps X.1.tables X.2.2.1 X.2.2.2.2.2.2.1 ((fillInside (Tm.setVm vm₁) (F0 X.2.2.2.2.1 pc ls rest) mg q cell).setTop (fillJ mg q 0 [])) t
  have hA1 : Jvm.At (fillInside (Tm.setVm vm₁) (F0 X.2.2.2.2.1 pc ls rest) mg q cell) mg cG X.2.2.2.2.2.2.1 := hAof vm₁ hW1
  jvm_step hA1 [C.1, hbytesG, b0, Value.isRef]
  refine st2 t ?_
  show Steps X.1.tables X.2.2.1 X.2.2.2.2.2.2.1 ((fillInside ((Tm.setVm vm₁).setVm vm2) (F0 X.2.2.2.2.1 pc ls rest) mg q cell).setTop (fillJ mg q 4 [va_rf o])) t
  jvm_step (hAof vm2 hW2) [C.1, hbytesG, b4, Value.isRef]
  have hvr : (va_rf o).isRef = true := by cases o <;> rfl
  have hva : (va_rf o).asRef? = some o := by cases o <;> rfl
  have hva' : (Value.ref q).asRef? = some (some q) := rfl
  have hac : Op.if_acmp.holds .ne o (some q) = true := by
    cases o with
    | none => rfl
    | some a =>
      have : a ≠ q := fun hh => hne (by rw [hh])
      simp [Op.if_acmp.holds, this]
  jvm_step (hAof vm2 hW2) [C.1, hbytesG, b5, Op.if_acmp.wp_sem, hva, hva', hac]
  have hA2 : Jvm.At (fillInside ((Tm.setVm vm₁).setVm vm2) (F0 X.2.2.2.2.1 pc ls rest) mg q cell) mg cG X.2.2.2.2.2.2.1 := hAof vm2 hW2
  show Steps X.1.tables X.2.2.1 X.2.2.2.2.2.2.1 ((fillInside ((Tm.setVm vm₁).setVm vm2) (F0 X.2.2.2.2.1 pc ls rest) mg q cell).setTop (fillJ mg q 12 [])) t
  jvm_step hA2 [C.1, hbytesG, b12, Value.isRef]
  refine st3 t ?_
  show Steps X.1.tables X.2.2.1 X.2.2.2.2.2.2.1 ((fillInside ((Tm.setVm vm₁).setVm vm3) (F0 X.2.2.2.2.1 pc ls rest) mg q cell).setTop (fillJ mg q 16 [va_rf o])) t
  jvm_step (hAof vm3 hW3) [C.1, hbytesG, b16, Op.areturn.wp_sem, hvr, FieldType.isReference]
  refine ⟨methG, hW3.methodAt hmethG, ⟨_, hretG, rfl⟩, fun acts' => ?_⟩
  have h3 : Jvm.At ((Tm.setVm vm₁).setVm vm3) (F0 X.2.2.2.2.1 pc ls rest).method X.2.2.2.2.2.2.2.2 X.2.2.2.2.2.2.1 := h.setVm (hW1.alike.symm.trans hW3.alike)
  have hfr : (fillInside ((Tm.setVm vm₁).setVm vm3) (F0 X.2.2.2.2.1 pc ls rest) mg q cell).frames = .java (entryFrameSync mg #[.ref q] 1 q) :: .java (F0 X.2.2.2.2.1 pc ls rest) :: ((Tm.setVm vm₁).setVm vm3).frames.tail := frames_entered (g := F0 X.2.2.2.2.1 pc ls rest) (s := ((Tm.setVm vm₁).setVm vm3).setCell q (cell.withEntry ((Tm.setVm vm₁).setVm vm3).cur)) (show (((Tm.setVm vm₁).setVm vm3).setCell q (cell.withEntry ((Tm.setVm vm₁).setVm vm3).cur)).topJava?.isSome from h3.top) _
  have hcode : (fillInside ((Tm.setVm vm₁).setVm vm3) (F0 X.2.2.2.2.1 pc ls rest) mg q cell).code? (F0 X.2.2.2.2.1 pc ls rest).method = some X.2.2.2.2.2.2.2.2 := by
    have := h3.code
    rw [State.code?_eq] at this ⊢
    exact this
  rw [doReturn_leave_sync (u := fillInside ((Tm.setVm vm₁).setVm vm3) (F0 X.2.2.2.2.1 pc ls rest) mg q cell) (g := F0 X.2.2.2.2.1 pc ls rest) (meth := methG) (cg := X.2.2.2.2.2.2.2.2) (ig := .invokevirtual idx) (len := 3) (a := q) (cell := cell.withEntry (Tm.setVm vm₁).cur) (f := fillJ mg q 16 []) (f₀ := entryFrameSync mg #[.ref q] 1 q) (r := ((Tm.setVm vm₁).setVm vm3).frames.tail) acts' howns hfr (hW3.methodAt hmethG) hlockG rfl rfl (hcellU vm3) rfl hcode (by rw [C.2.1]; exact hdg)]
  have hleft : (cell.withEntry (Tm.setVm vm₁).cur).left = cell := Cell.left_withEntry _ (by rw [hmon]) (by rw [hmon])
  rw [hleft, ← State.setCell_setFrames]
  have e1 : (fillInside ((Tm.setVm vm₁).setVm vm3) (F0 X.2.2.2.2.1 pc ls rest) mg q cell).setFrames (.java (F0 X.2.2.2.2.1 pc ls rest) :: ((Tm.setVm vm₁).setVm vm3).frames.tail) = (((Tm.setVm vm₁).setVm vm3).setCell q (cell.withEntry ((Tm.setVm vm₁).setVm vm3).cur)).setTop (F0 X.2.2.2.2.1 pc ls rest) := setFrames_entered (s := ((Tm.setVm vm₁).setVm vm3).setCell q (cell.withEntry ((Tm.setVm vm₁).setVm vm3).cur)) h3.top _
  rw [e1]
  have e2 : ((((Tm.setVm vm₁).setVm vm3).setCell q (cell.withEntry ((Tm.setVm vm₁).setVm vm3).cur)).setTop (F0 X.2.2.2.2.1 pc ls rest)).setCell q cell = ((Tm.setVm vm₁).setVm vm3).setTop (F0 X.2.2.2.2.1 pc ls rest) := by
    rw [State.setCell_setTop, setCell_twice, State.setCell_asItLies (s := (Tm.setVm vm₁).setVm vm3) hcellT]
  rw [e2, State.setTop_setTop]
  exact k1
/-- the cause of a denial -/
def hp_gc (h : AH) (q : Nat) : Option (Option Nat) := match h q with
  | some (.inr (c, fs)) => if c = 4 then (match (fs : List Value)[0]? with
    | some (Value.ref a) => if a = q then none else some (some a)
    | some Value.null => some none
    | _ => none) else none
  | _ => none
theorem rb_hgc (C : Cx Ev X own cc nl rt tb) {q idx : Nat} {rc2 : String} {T : u_T} {N : Nat} {ty : Nat → FieldType} {o : Option Nat} {b : ByteArray} (ck : CK 4 "RainbowOperators$Denial" T N ty) (fz : FZ rc2) (gz : GZ own idx "RainbowOperators$Denial" b) (gb : GB b) (hkC : 0 < N) (tC : (T 0).1 = Bundle.tN ∧ (T 0).2.1 = "cause" ∧ (T 0).2.2.1 = "Ljava/lang/Throwable;") (e : hp_gc hh q = some o) (hf : 3 ≤ R.frames) (hlo : (rest.map fun v => v.category).sum + 42 ≤ R.locals) (hdg : decode cc pc = .ok (.invokevirtual idx, 3)) (k : Wa Ev X R nl hh nn kc ks Q (pc + 3) lc (va_rf o :: rest)) : Wa Ev X R nl hh nn kc ks Q pc lc (.ref q :: rest) := by
  unfold hp_gc at e
  split at e
  · next c fs he =>
    split at e
    · next hc =>
      subst hc
      split at e
      · next a ha =>
        split at e
        · cases e
        · next hne =>
          cases e
          exact rb_hcause (o := some a) C ck fz gz gb hkC tC he ha (fun hh => hne (Option.some.inj hh)) hf hlo hdg k
      · next ha =>
        cases e
        exact rb_hcause (o := none) C ck fz gz gb hkC tC he ha (fun hh => by cases hh) hf hlo hdg k
      · cases e
    · cases e
  · cases e
end R8
