set_option maxRecDepth 100000
set_option linter.unusedVariables false
/-- the words of a call of fillInStackTrace() on an object of the class rc -/
def fillW (rc : String) : List Cond := Bundle.throwableAtoms ++ [.selects rc Bundle.tFill0 Bundle.tFill0, .selects rc Bundle.tFill Bundle.tFill, .lays rc Bundle.tN "stackTrace" Bundle.steD, .fieldLink Bundle.tN 198 Bundle.tN "backtrace" "Ljava/lang/Object;", .lays Bundle.tN Bundle.tN "backtrace" "Ljava/lang/Object;", .lays rc Bundle.tN "backtrace" "Ljava/lang/Object;"]
def FZ (rc : String) : Prop := (∀ w ∈ (fillW rc).filter vy_no, w ∈ lw_tbl) ∧ ∀ w ∈ (fillW rc).filter vy_no, (goodWord w || (rb_nwk w && w.onTables)) = true
section R7
variable {Ev : rb_E} {X : WX} {R : Room} {own : String} {cc : ByteArray} {nl : Nat} {rt : Option FieldType} {tb : List ExceptionTableEntry} {hh : AH} {nn kc ks : Nat} {Q : State → Prop} {pc : Nat} {lc : List (Nat × Value)} {rest : List Value}
/-- fillInStackTrace(), where no traces are kept: nothing moves -/
theorem rb_hfill (C : Cx Ev X Bundle.tN cc nl rt tb) {q ci kS kB : Nat} {rc : String} {T : u_T} {N : Nat} {ty : Nat → FieldType} {fs : List Value} (ck : CK ci rc T N ty) (fz : FZ rc) (hkS : kS < N) (tS : (T kS).1 = Bundle.tN ∧ (T kS).2.1 = "stackTrace" ∧ (T kS).2.2.1 = Bundle.steD) (hkB : kB < N) (tB : (T kB).1 = Bundle.tN ∧ (T kB).2.1 = "backtrace" ∧ (T kB).2.2.1 = "Ljava/lang/Object;") (hsw : Cond.laysStatic Bundle.tN "UNASSIGNED_STACK" Bundle.steD ∈ lw_tbl) (e0 : hh q = some (.inr (ci, fs))) (e1 : fs[kS]? = some (eV Ev Bundle.tN "UNASSIGNED_STACK")) (e2 : fs[kB]? = some .null) (hf : 3 ≤ R.frames) (hlo : (rest.map fun v => v.category).sum + 42 ≤ R.locals) (hdg : decode cc pc = .ok (.invokevirtual 27, 3)) (k : Wa Ev X R nl hh nn kc ks Q (pc + 3) lc (.ref q :: rest)) : Wa Ev X R nl hh nn kc ks Q pc lc (.ref q :: rest) := by
  intro H locs ls hM hz hla Tm hT Y
  have hG := C.2.2.2.2.2.1
  have hB := C.2.2.2.2.2.2.2.2.2.2
  have hkp : ∀ a : Nat, a < (eH Ev).size → ¬ rb_A Ev a → X.2.2.2.1.heap[a]? = (eH Ev)[a]? := fun a h1 _ => hB.2 a h1
  have hU := hG.2.2.2.2.2.2.2.2.1.2.2.1.kept hkp
  have hN := hG.2.2.2.2.2.2.2.2.1.2.2.2.kept hkp
  have W : ∀ w ∈ fillW rc, w.before X.2.2.2.2.2.1 X.2.2.2.1 = true := vy_own (rb_words C fz.1 fz.2) (vy_isRefq hU.1) (vy_isRefq hN.1) hU.2.word hN.2.word
  have a' : ∀ w ∈ fillW rc, w.holds X.2.2.2.2.2.1 X.2.2.2.1 none X.2.2.2.1 [] = true := fun w hw => W w hw
  have htr : X.2.2.1.platform.stackTraces = false := (show X.2.2.1.platform.stackTraces = X.2.1.stackTraces by rw [Y.admits.platform]).trans C.2.2.2.2.2.2.1
  have howns : X.2.2.1.platform.frameOwnsMonitors = true := by rw [Y.admits.platform]
  have hfin : X.2.2.1.platform.finalization = false := by rw [Y.admits.platform]
  have hpl : X.2.2.1.platform.magicAccessors = ({} : Platform).magicAccessors := by rw [Y.admits.platform]
  obtain ⟨Tc, Z0, L, -, Yt⟩ := ThrowableC.of_atoms (args := X.2.2.2.2.2.1) howns hfin hpl (fun w hw => W w (List.mem_append_left _ hw))
  obtain ⟨hck, hin, hty, hnm⟩ := ck
  obtain ⟨r, g1, cell, q1, q2, q3, q4⟩ := (hM.2.2.2 q _ e0).2
  cases Option.some.inj (g1.symm.trans hck)
  obtain ⟨hS, hfc, kC, hkC, hkind⟩ := hG.1.1 ci _ hck
  have hfound : X.2.2.2.1.vm.findClass rc = some cell.cls := by rw [q2]; exact hfc
  have hk : X.2.2.2.1.vm.classes[cell.cls]? = some kC := by rw [q2]; exact hkC
  have hmon : cell.monitor = {} := hM.2.1.2 q _ cell e0 q1
  -- the two fields' places
  obtain ⟨cfS, kfS, fiS, fS, hiS, slS⟩ := hS kS hkS
  rw [tS.1, tS.2.1, tS.2.2] at hiS
  cases hiS.symm.trans Yt.stack
  obtain ⟨cfB, kfB, fiB, fB, hiB, slB⟩ := hS kB hkB
  rw [tB.1, tB.2.1, tB.2.2] at hiB
  obtain ⟨ci198, i198, fB', hk198, hg198, ha198, hsB, -, hnB, htB, hffB⟩ := Cond.ownField (t := .object "java/lang/Object") Yt.found L.cls (by decide +kernel) (a' (.fieldLink Bundle.tN 198 Bundle.tN "backtrace" "Ljava/lang/Object;") (by simp [fillW])) (a' (.lays Bundle.tN Bundle.tN "backtrace" "Ljava/lang/Object;") (by simp [fillW])) X.2.2.1.platform hpl
  cases hiB.symm.trans hffB
  have hvS : cell.slots[Tc.fStack.slot]? = some (eV Ev Bundle.tN "UNASSIGNED_STACK") := by
    rw [slS, q4 kS hkS]
    simp [vp_V, e1]
  have hvB : cell.slots[fB.slot]? = some .null := by
    rw [slB, q4 kB hkB]
    simp [vp_V, e2]
  -- the static's value
  obtain ⟨cu, ku, iu, fu, au, cellS, u1, u2, u3, u4, u5, u6, u7, u8⟩ := hG.2.1 _ _ _ hsw
  cases u1.symm.trans Yt.unassigned
  cases Option.some.inj (u4.symm.trans L.statics)
  have hcS : H[Tc.aS]? = some cellS := by rw [hM.2.2.1 Tc.aS (Nat.not_le.mp u8)]; exact u5
  obtain ⟨o, hvo⟩ := C.pf.2.2.2.2.2.2.2.2.2.2.2.1
  have hvr : (eV Ev Bundle.tN "UNASSIGNED_STACK").isRef = true := by
    rw [show eV Ev Bundle.tN "UNASSIGNED_STACK" = va_rf o from hvo]
    cases o <;> rfl
  obtain ⟨u0, hu0⟩ : ∃ u : RefV, u.v = eV Ev Bundle.tN "UNASSIGNED_STACK" := ⟨⟨_, hvr⟩, rfl⟩
  rw [← hu0] at hvS u7
  have hneS : Tc.aS ≠ q := fun h9 => u8 (by rw [h9]; exact (hM.2.2.2 q _ e0).1)
  have hsel0 : selectMethod X.2.2.1.platform X.2.2.2.1.vm cell.cls Tc.fill0 = .method Tc.fill0 := by
    obtain ⟨c2, r2, m2, p1, p2, p3, p4, -⟩ := Cond.selects_spec (a' (.selects rc Bundle.tFill0 Bundle.tFill0) (by simp [fillW]))
    cases Option.some.inj (p1.symm.trans hfound)
    cases Option.some.inj (p2.symm.trans (State.methodFound?_of_named Yt.fill0 (by decide)))
    cases Option.some.inj (p3.symm.trans Yt.fill0)
    rw [Launch.admits_selectMethod Y.admits]; exact p4
  have hselF : selectMethod X.2.2.1.platform X.2.2.2.1.vm cell.cls Tc.fill = .method Tc.fill := by
    obtain ⟨c2, r2, m2, p1, p2, p3, p4, -⟩ := Cond.selects_spec (a' (.selects rc Bundle.tFill Bundle.tFill) (by simp [fillW]))
    cases Option.some.inj (p1.symm.trans hfound)
    cases Option.some.inj (p2.symm.trans (State.methodFound?_of_named Yt.fill (by decide)))
    cases Option.some.inj (p3.symm.trans Yt.fill)
    rw [Launch.admits_selectMethod Y.admits]; exact p4
  obtain ⟨tyS, dS, hdS, hdnS⟩ := Cond.laysAt hfound hk Yt.stack (a' (.lays rc Bundle.tN "stackTrace" Bundle.steD) (by simp [fillW]))
  have hst : Jvm.Takes X.2.2.2.1 cell Tc.fStack u0.v := by
    obtain ⟨x1, x2⟩ := Takes.of_laid (v := u0.v) hk hkind tyS (by rw [Yt.stackType]; exact fits_refV_array _ u0)
    exact ⟨(Array.getElem?_eq_some_iff.mp hvS).1, by rw [q3]; exact x2⟩
  have hcellT : Tm.heap[q]? = some cell := by rw [hT]; exact q1
  obtain ⟨vm₁, Y₁, hstep₁⟩ := Y.invokevirtual C.1 C.2.2.2.1 (W (.methodLink Bundle.tN 27 Bundle.tFill) (by simp [fillW, Bundle.throwableAtoms])) Yt.fill (L.method L.fillAt) L.fillStatic L.cls L.notInterface (by decide) (a := q) (cell := cell) hcellT (fun z h => by rw [q3] at h; cases h) hselF (L.method L.fillAt) L.fillAbstract L.cls L.notInterface (g := F0 X.2.2.2.2.1 pc ls (.ref q :: rest)) rfl (argsL := []) (rest := rest) (by rw [L.fillParams]; rfl) rfl (by rw [C.2.1]; exact hdg)
  have h : Jvm.At (Tm.setVm vm₁) (F0 X.2.2.2.2.1 pc ls rest).method X.2.2.2.2.2.2.2.2 X.2.2.2.2.2.2.1 := Y₁.here
  have hsize : (F0 X.2.2.2.2.1 pc ls rest).locals.size = X.2.2.2.2.2.2.2.2.maxLocals := by rw [C.2.2.1]; exact hla.1
  have hfr' := Y₁.framesAbove (n := 2) (by omega)
  have hwd' := Y₁.stackAbove (g := F0 X.2.2.2.2.1 pc ls rest) hsize (K := 42) (by show 2 * 0 + (rest.map fun v => v.category).sum + 42 ≤ R.locals; omega)
  obtain ⟨g₀, hg0⟩ := Option.isSome_iff_exists.mp h.top
  obtain ⟨tl0, htl0⟩ := State.topJava?_eq_some.mp hg0
  have hlen0 : (Tm.setVm vm₁).frames.length = (Frame.java (F0 X.2.2.2.2.1 pc ls rest) :: (Tm.setVm vm₁).frames.tail).length := by rw [htl0]; rfl
  generalize hFr : (Frame.java (F0 X.2.2.2.2.1 pc ls rest) :: (Tm.setVm vm₁).frames.tail) = Fr at hlen0 hwd'
  have hfg : ((Tm.setVm vm₁).setTop (F0 X.2.2.2.2.1 pc ls rest)).frames = [] ++ Fr := by rw [State.frames_setTop _ htl0, ← hFr, htl0]; rfl
  have hroom := roomAbove (pl := X.2.2.1.platform) (pushed := []) (base := Fr) (vars := 1 + 2) (free := 42) (lim := X.2.2.1.platform.stackLimits (Tm.setVm vm₁).me) hfg (State.stackLimits_setTop _ h.top (F0 X.2.2.2.2.1 pc ls rest)) (by rw [← hlen0]; simp only [List.length_nil]; omega) hwd' (by simp only [stackUse_nil]; omega)
  have hw14 : (stackUse [Frame.java (fillJ Tc.fill q 16 [])]).2 = 14 := by
    rw [stackUse_java, stackUse_nil]
    simp [operandWords]
  obtain ⟨vm', hW', st⟩ := Steps.fillColdAnyV X.1 (V := Tm.setVm vm₁) (g := F0 X.2.2.2.2.1 pc ls rest) (self := q) h C.1 Tc L Y₁.warmed (Nn := fun u => u) heapOnly_id (fun _ _ => rfl) (fun _ => rfl) (fun u x y => setCell_twice _ _ _ _)
    (cell := cell) (cellS := cellS) (cN := cell.withEntry (Tm.setVm vm₁).cur) (u0 := u0) (ig := .invokevirtual 27) (len := 3) []
    hcellT (fun z h => by rw [q3] at h; cases h) (by rw [q3]; exact fun h => by cases h) (Or.inl (by rw [hmon])) hvS hsel0 (by show Tm.heap[Tc.aS]? = _; rw [hT]; exact hcS) hneS (fun h => by rw [h] at u6; cases u6) u7 (fun u hu => hu) (fun u hu => hu) rfl rfl rfl rfl hst (by rw [C.2.1]; exact hdg)
    (fun _ vm1 hW1 hAt t' hrest => by
      obtain ⟨g₁, hg1⟩ := Option.isSome_iff_exists.mp hAt.top
      obtain ⟨tl1, htl1⟩ := State.topJava?_eq_some.mp hg1
      have htail : (fillInside ((Tm.setVm vm₁).setVm vm1) (F0 X.2.2.2.2.1 pc ls rest) Tc.fill q cell).frames.tail = Fr := by rw [← hFr]; exact fillInside_tail ((Tm.setVm vm₁).setVm vm1) (F0 X.2.2.2.2.1 pc ls rest) Tc.fill q cell h.top
      have etl : tl1 = Fr := by rw [htl1] at htail; exact htail
      have htopE : (((Tm.setVm vm₁).setVm vm1).setCell q (cell.withEntry ((Tm.setVm vm₁).setVm vm1).cur)).topJava?.isSome := h.top
      have hlimF : X.2.2.1.platform.stackLimits (fillInside ((Tm.setVm vm₁).setVm vm1) (F0 X.2.2.2.2.1 pc ls rest) Tc.fill q cell).me = X.2.2.1.platform.stackLimits (Tm.setVm vm₁).me := by
        rw [State.stackLimits_pushFrame, State.stackLimits_setTop _ htopE]; rfl
      exact L.nativeOff X.1 htr hAt hW1 (roomAbove (pushed := [.java (fillJ Tc.fill q 16 [])]) (base := Fr) (free := 42) (lim := X.2.2.1.platform.stackLimits (Tm.setVm vm₁).me) (by rw [State.frames_setTop _ htl1, etl]; rfl) (by rw [State.stackLimits_setTop _ hAt.top]; exact hlimF) (by rw [← hlen0]; simp only [List.length_cons, List.length_nil]; omega) hwd' (by rw [hw14]; decide)) hrest)
    hroom ⟨{ ci198 := ci198, i198 := fiB, fBack := fB }, ⟨hk198, hg198, ha198, hsB⟩, hvB, fun _ _ => rfl⟩
  have hend : ((cell.withEntry (Tm.setVm vm₁).cur).setSlot Tc.fStack.slot u0.v).left = cell := by
    rw [Cell.left_setSlot, Cell.left_withEntry _ (by rw [hmon]) (by rw [hmon])]
    exact Cell.setSlot_same hvS
  rw [hend, State.setCell_asItLies (s := (Tm.setVm vm₁).setVm vm') hcellT] at st
  obtain ⟨t, b1, b2⟩ := k H locs ls hM hz hla ((Tm.setVm vm₁).setVm vm') hT (Y₁.noted hW')
  exact ⟨t, hstep₁ _ fun acts => by rw [doInvoke_state]; exact st t b1, b2⟩
/-- what a call of fillInStackTrace() asks of the object -/
def hp_fil (Ev : rb_E) (h : AH) (q ci kS kB : Nat) : Option Unit := match h q with
  | some (.inr (c, fs)) => if c = ci ∧ fs[kS]? = some (eV Ev Bundle.tN "UNASSIGNED_STACK") ∧ fs[kB]? = some .null then some () else none
  | _ => none
theorem rb_hfil (C : Cx Ev X Bundle.tN cc nl rt tb) {q ci kS kB : Nat} {rc : String} {T : u_T} {N : Nat} {ty : Nat → FieldType} {u : Unit} (ck : CK ci rc T N ty) (fz : FZ rc) (hkS : kS < N) (tS : (T kS).1 = Bundle.tN ∧ (T kS).2.1 = "stackTrace" ∧ (T kS).2.2.1 = Bundle.steD) (hkB : kB < N) (tB : (T kB).1 = Bundle.tN ∧ (T kB).2.1 = "backtrace" ∧ (T kB).2.2.1 = "Ljava/lang/Object;") (hsw : Cond.laysStatic Bundle.tN "UNASSIGNED_STACK" Bundle.steD ∈ lw_tbl) (e : hp_fil Ev hh q ci kS kB = some u) (hf : 3 ≤ R.frames) (hlo : (rest.map fun v => v.category).sum + 42 ≤ R.locals) (hdg : decode cc pc = .ok (.invokevirtual 27, 3)) (k : Wa Ev X R nl hh nn kc ks Q (pc + 3) lc (.ref q :: rest)) : Wa Ev X R nl hh nn kc ks Q pc lc (.ref q :: rest) := by
  unfold hp_fil at e
  split at e
  · next c fs he =>
    split at e
    · next hc =>
      obtain ⟨rfl, e1, e2⟩ := hc
      exact rb_hfill C ck fz hkS tS hkB tB hsw he e1 e2 hf hlo hdg k
    · cases e
  · cases e
end R7
