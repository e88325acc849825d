set_option maxRecDepth 100000
set_option linter.unusedVariables false
/-! WHAT THE LAUNCH'S STATICS HOLD -/
theorem GE.pf {E : rb_E} {U : State} (h : GE E U) : rb_pf E := h.2.2.2.2.2.2.2.2.2
theorem Cx.pf {Ev : rb_E} {X : WX} {own : String} {cc : ByteArray} {nl : Nat} {rt : Option FieldType} {tb : List ExceptionTableEntry} (C : Cx Ev X own cc nl rt tb) : rb_pf Ev := C.2.2.2.2.2.1.pf
theorem ah_ne {h : AH} {a b : Nat} {x y : va_E} (ha : h a = some x) (hb : h b = some y) (n : x ≠ y) : a ≠ b := fun e => n (by rw [e, hb] at ha; exact (Option.some.inj ha).symm)
/-- all that is known stays, but for the cells of W -/
def Fr (W : Nat → Prop) (h h' : AH) : Prop := ∀ a e, h a = some e → ¬ W a → h' a = some e
section SYS
variable {Ev : rb_E} {X : WX} {R : Room} {own : String} {cc : ByteArray} {nl : Nat} {rt : Option FieldType} {tb : List ExceptionTableEntry} {hh : AH} {nn kc ks : Nat} {Q : State → Prop} {pc : Nat} {lc : List (Nat × Value)} {rest : List Value}
theorem rb_toInt {z : Int32} (h : ¬ z < 0) : z.toInt = (z.toNatClampNeg : Int) := by
  have h0 : (0 : Int) ≤ z.toInt := by simpa using Int32.le_iff_toInt_le.mp (Int32.not_lt.mp h)
  show z.toInt = ((z.toInt.toNat : Nat) : Int)
  omega
/-- one cell has been written: on with the walk -/
theorem rb_stored {H : Heap} {locs L : List Loc} {ls : Array Slot} {a : Nat} {e0 : va_E} {T : State} {vm' : Vm} {cell : Cell} {pc' : Nat} {st0 st' : List Value} {lc' : List (Nat × Value)} (hM : Mt Ev hh nn H) (hz : ∀ z ∈ locs, (eH Ev).size ≤ z.base) (hla : lv_has ls nl lc') (h1 : hh a = some e0) (e : ClassId × vp_A) (hcell : va_at (eD Ev) rb_CL (a, .inl e) = fun H => H[a]? = some cell) (hT : T.heap = H) (Y' : Stand X.1 X.2.1 X.2.2.1 R X.2.2.2.1 X.2.2.2.2.1 X.2.2.2.2.2.1 X.2.2.2.2.2.2.1 X.2.2.2.2.2.2.2.1 X.2.2.2.2.2.2.2.2 ((T.setVm vm').setCell a cell) (locs ++ L) kc ks) (step : ∀ tg, Steps X.1.tables X.2.2.1 X.2.2.2.2.2.2.1 (((T.setVm vm').setCell a cell).setTop (F0 X.2.2.2.2.1 pc' ls st')) tg → Steps X.1.tables X.2.2.1 X.2.2.2.2.2.2.1 (T.setTop (F0 X.2.2.2.2.1 pc ls st0)) tg) (hL : ∀ z ∈ L, z.base = a) (k : Wa Ev X R nl (va_up hh a (some (.inl e))) nn kc ks Q pc' lc' st') : ∃ t, Steps X.1.tables X.2.2.1 X.2.2.2.2.2.2.1 (T.setTop (F0 X.2.2.2.2.1 pc ls st0)) t ∧ Q t := by
  have hB := (hM.2.2.2 a _ h1).1
  have hl : a < H.size := by rw [hM.1]; exact hM.lt h1
  have hh' : ((T.setVm vm').setCell a cell).heap = H.setIfInBounds a cell := by rw [← hT]; rfl
  have oq : ∀ q : Nat, q ≠ a → (H.setIfInBounds a cell)[q]? = H[q]? := fun q hq => by simp [Array.getElem?_setIfInBounds, Ne.symm hq]
  obtain ⟨t, a1, b1⟩ := k (H.setIfInBounds a cell) (locs ++ L) ls (hM.set h1 (by rw [hcell]; simp [Array.getElem?_setIfInBounds, hl]) (by simp) oq) (fun z h => (List.mem_append.mp h).elim (hz z) (fun h => by rw [hL z h]; exact hB)) hla _ hh' Y'
  exact ⟨t, step t a1, b1⟩
/-- an inherited method, called by its class's child -/
def SSU (own : String) (idx : Nat) (y : MethodName) : Prop := Cond.methodLink own idx y ∈ lw_all ∧ Cond.sameMethod y.cls y.cls y.name y.desc ∈ lw_all ∧ Cond.superclass own y.cls ∈ lw_all ∧ Cond.instanceMethod y ∈ lw_all ∧ Cond.initialized y.cls ∈ lw_all ∧ y.name ≠ "<init>"
theorem rb_callSU (C : Cx Ev X own cc nl rt tb) {y : MethodName} {b : ByteArray} {L n idx q ci N : Nat} {r : Option FieldType} {T : u_T} {ty : Nat → FieldType} {rm : Room} {post : rb_R → AH → Nat → Prop} {As st : List Value} (mi : MIc y b L r n) (sl : SSU own idx y) (ck : CK ci own T N ty) (hq : IsC Ev hh q own) (hc : Ct Ev y (ws_ y b L r) rm (.ref q :: As) hh nn post) (hn : As.length = n) (hst : st = As.reverse ++ .ref q :: rest) (hW : (rest.map fun v => v.category).sum ≤ 8) (hR : RmOk R kc ks L rm) (hdg : decode cc pc = .ok (.invokespecial idx, 3))
    (kx : ∀ (E : String) (q : Nat) (h' : AH) (n' : Nat), nn ≤ n' → post (.inr (E, q)) h' n' → WaX Ev X R nl h' n' (kc + rm.cells) (ks + rm.slots) Q pc lc E q)
    (kk : ∀ (v : Option Value) (h' : AH) (n' : Nat), nn ≤ n' → post (.inl v) h' n' → Wa Ev X R nl h' n' (kc + rm.cells) (ks + rm.slots) Q (pc + 3) lc (v.toList ++ rest)) : Wa Ev X R nl hh nn kc ks Q pc lc st := by
  obtain ⟨s1, s2, s3, s4, s5, s6⟩ := sl
  have hg : GoodIn lw_all (va_wsSU own idx y (ws_ y b L r)) := by
    refine lw_app ?_ (lw_meth mi.1)
    intro w hw
    simp only [List.mem_cons, List.not_mem_nil, or_false] at hw
    rcases hw with e | e | e | e | e
    · rw [e]; exact s1
    · rw [e]; exact s2
    · rw [e]; exact s3
    · rw [e]; exact s4
    · rw [e]; exact s5
  exact fun H locs ls hM hz hla => rb_cont hM hz hla (vy_runSU (As := As) (C.2.2.2.2.2.1.1.1 ci _ ck.1).2 ⟨C.1, C.2.1, C.2.2.1, C.2.2.2.1, C.2.2.2.2.1⟩ (hc X.2.1 C.2.2.2.2.2.2.1) (va_cwSU n C.2.2.2.2.1 hg rfl rfl rfl ⟨s6, mi.2.2.2.2⟩ ⟨hR.1, hR.2.1⟩) ⟨rb_blind, hq.recv C.2.2.2.2.2.1 hM, fun U hU hW => ⟨rfl, GE.warm hW C.2.2.2.2.2.1, by rw [hU]; exact hM⟩⟩ rfl hn hla.1 hst (by show 2 * 0 + _ ≤ _; omega) hdg hR.2.2) kx kk
/-- System.arraycopy of numbers -/
theorem rb_copyi (C : Cx Ev X own cc nl rt tb) {idx a0 a n0 n1 : Nat} (t0 : Nat) {cA : ClassId} {ty : FieldType} {f g : Nat → Int32} {sp dp n : Int32} (l1 : Cond.methodLink own idx arraycopyName ∈ lw_all) (l2 : Cond.native arraycopyName ∈ lw_all) (l3 : Cond.static arraycopyName ∈ lw_all) (l4 : Cond.initialized "java/lang/System" ∈ lw_all) (ht : (rb_TY Ev)[t0]? = some (cA, ty)) (hprim : refKind ty = false) (h0 : At Ev hh a0 (.inl (cA, n0, .inl f))) (h1 : hh a = some (.inl (cA, n1, .inl g))) (b1 : ¬ sp < 0) (b2 : ¬ dp < 0) (b3 : ¬ n < 0) (b4 : sp.toNatClampNeg + n.toNatClampNeg ≤ n0) (b5 : dp.toNatClampNeg + n.toNatClampNeg ≤ n1) (hfit : ∀ i, i < n.toNatClampNeg → fits ty (.int (f (sp.toNatClampNeg + i))) = true) (hf : 1 ≤ R.frames) (hlo : (rest.map fun v => v.category).sum + (nativeFrameWords "java/lang/System" "arraycopy" 5 + 11) ≤ R.locals) (hdg : decode cc pc = .ok (.invokestatic idx, 3))
    (kk : ∀ h' : AH, h' a = some (.inl (cA, n1, .inl (va_cpy f g sp.toNatClampNeg dp.toNatClampNeg n.toNatClampNeg))) → (∀ b, b ≠ a → h' b = hh b) → Wa Ev X R nl h' nn kc ks Q (pc + 3) lc rest) : Wa Ev X R nl hh nn kc ks Q pc lc (.int n :: .int dp :: .ref a :: .int sp :: .ref a0 :: rest) := by
  intro H locs ls hM hz hla
  have hts := C.2.2.2.2.1
  have hB := (hM.2.2.2 a _ h1).1
  intro T hT Y
  have hK := C.2.2.2.2.2.1.1
  have hs := h0.of hM
  have hd := (hM.2.2.2 a _ h1).2
  obtain ⟨-, k0, hk0, cm0, hkk0⟩ := (hK.2 t0 _ ht).1 n0 (fun j => .int (f j))
  obtain ⟨-, k1, hk1, cm1, hkk1⟩ := (hK.2 t0 _ ht).1 n1 (fun j => .int (g j))
  obtain ⟨vm', Y', step⟩ := Y.arraycopy C.1 C.2.2.2.1 (hts _ l1) (hts _ l2) (hts _ l3) (hts _ l4) (src := a0) (dst := a) (cs := arrV cA n0 (fun j => .int (f j))) (cd := arrV cA n1 (fun j => .int (g j))) (srcPos := sp) (destPos := dp) (n := n) (by rw [hT]; exact hs) (by rw [hT]; exact hd) (fun _ h => by cases h) (fun _ h => by cases h) (fun h => by cases h) (fun h => by cases h) hk0 hk1 hkk0 hkk1 (by simp [hprim]) b1 b2 b3
    (by rw [rb_toInt b1, rb_toInt b3, arrV_size]; omega) (by rw [rb_toInt b2, rb_toInt b3, arrV_size]; omega)
    (fun _ _ i hi => by
      have e : (arrV cA n0 (fun j => .int (f j))).slots.getD (sp.toNatClampNeg + i) .null = .int (f (sp.toNatClampNeg + i)) := by
        rw [Array.getD_eq_getD_getElem?, arrV_read _ _ (by omega)]
        rfl
      rw [e]
      exact ⟨hfit i hi, trivial⟩)
    (g := F0 X.2.2.2.2.1 pc ls (.int n :: .int dp :: .ref a :: .int sp :: .ref a0 :: rest)) rfl (by rw [C.2.2.1]; exact hla.1) (rest := rest) rfl (by rw [C.2.1]; exact hdg) hf (by show 2 * 0 + _ + _ ≤ _; omega)
  rw [show copied (arrV cA n0 (fun j => .int (f j))) (arrV cA n1 (fun j => .int (g j))) sp dp n = arrV cA n1 (fun j => .int (va_cpy f g sp.toNatClampNeg dp.toNatClampNeg n.toNatClampNeg j)) from va_copied (fun z => .int z) cA cA f g b4] at Y' step
  exact rb_stored hM hz hla h1 ((cA, n1, .inl (va_cpy f g sp.toNatClampNeg dp.toNatClampNeg n.toNatClampNeg))) rfl hT Y' step (fun z hz => (List.mem_map.mp hz).elim fun w hw => by rw [← hw.2]) (kk _ (va_up_self _ _ _) (fun b hb => va_up_ne _ _ hb))
/-- System.arraycopy of references -/
theorem rb_copyM (C : Cx Ev X own cc nl rt tb) {idx a0 a n0 n1 : Nat} (t0 t1 : Nat) {c0 c1 : ClassId} {E0 E1 : String} {f g : Nat → Option Nat} {sp dp n : Int32} (l1 : Cond.methodLink own idx arraycopyName ∈ lw_all) (l2 : Cond.native arraycopyName ∈ lw_all) (l3 : Cond.static arraycopyName ∈ lw_all) (l4 : Cond.initialized "java/lang/System" ∈ lw_all) (ht0 : (rb_TY Ev)[t0]? = some (c0, .object E0)) (ht1 : (rb_TY Ev)[t1]? = some (c1, .object E1)) (h0 : At Ev hh a0 (.inl (c0, n0, aQ f))) (h1 : hh a = some (.inl (c1, n1, aQ g))) (b1 : ¬ sp < 0) (b2 : ¬ dp < 0) (b3 : ¬ n < 0) (b4 : sp.toNatClampNeg + n.toNatClampNeg ≤ n0) (b5 : dp.toNatClampNeg + n.toNatClampNeg ≤ n1) (hel : ∀ i : Nat, i < n.toNatClampNeg → ∀ y : Nat, f (sp.toNatClampNeg + i) = some y → ∃ Cv, IsC Ev hh y Cv ∧ Cond.castable Cv E1 ∈ lw_tbl) (hf : 1 ≤ R.frames) (hlo : (rest.map fun v => v.category).sum + (nativeFrameWords "java/lang/System" "arraycopy" 5 + 11) ≤ R.locals) (hdg : decode cc pc = .ok (.invokestatic idx, 3))
    (kk : ∀ h' : AH, h' a = some (.inl (c1, n1, aQ (va_cpy f g sp.toNatClampNeg dp.toNatClampNeg n.toNatClampNeg))) → (∀ b, b ≠ a → h' b = hh b) → Wa Ev X R nl h' nn kc ks Q (pc + 3) lc rest) : Wa Ev X R nl hh nn kc ks Q pc lc (.int n :: .int dp :: .ref a :: .int sp :: .ref a0 :: rest) := by
  intro H locs ls hM hz hla
  have hts := C.2.2.2.2.1
  have hB := (hM.2.2.2 a _ h1).1
  have hG := C.2.2.2.2.2.1
  intro T hT Y
  have hs := h0.of hM
  have hd := (hM.2.2.2 a _ h1).2
  obtain ⟨-, k0, hk0, cm0, hkk0⟩ := (hG.1.2 t0 _ ht0).1 n0 (fun j => va_rf (f j))
  obtain ⟨-, k1, hk1, cm1, hkk1⟩ := (hG.1.2 t1 _ ht1).1 n1 (fun j => va_rf (g j))
  obtain ⟨vm', Y', step⟩ := Y.arraycopy C.1 C.2.2.2.1 (hts _ l1) (hts _ l2) (hts _ l3) (hts _ l4) (src := a0) (dst := a) (cs := arrV c0 n0 (fun j => va_rf (f j))) (cd := arrV c1 n1 (fun j => va_rf (g j))) (srcPos := sp) (destPos := dp) (n := n) (by rw [hT]; exact hs) (by rw [hT]; exact hd) (fun _ h => by cases h) (fun _ h => by cases h) (fun h => by cases h) (fun h => by cases h) hk0 hk1 hkk0 hkk1 (by simp [refKind]) b1 b2 b3
    (by rw [rb_toInt b1, rb_toInt b3, arrV_size]; omega) (by rw [rb_toInt b2, rb_toInt b3, arrV_size]; omega)
    (fun vm₁ hal i hi => by
      have e : (arrV c0 n0 (fun j => va_rf (f j))).slots.getD (sp.toNatClampNeg + i) .null = va_rf (f (sp.toNatClampNeg + i)) := by
        rw [Array.getD_eq_getD_getElem?, arrV_read _ _ (by omega)]
        rfl
      rw [e]
      cases hy : f (sp.toNatClampNeg + i) with
      | none => exact ⟨rfl, trivial⟩
      | some y =>
        obtain ⟨Cv, hv, hc⟩ := hel i hi y hy
        obtain ⟨cellV, g1, g2, g3⟩ := hv.recv hG hM
        obtain ⟨c3, c4, hc3, hc4, hasg⟩ := Cond.castable_spec (hG.2.2.2.1 _ hc rfl)
        cases Option.some.inj (hc3.symm.trans g3)
        obtain ⟨kV, hkV, -⟩ := Vm.findClass_spec g3
        obtain ⟨kA, comp, r1, r2, r3, -⟩ := (hG.1.2 t1 _ ht1).2
        cases hk1.symm.trans r1
        cases hkk1.symm.trans r2
        cases Option.some.inj (hc4.symm.trans r3)
        obtain ⟨kE, hkE, -⟩ := Vm.findClass_spec r3
        obtain ⟨kV', hkV', -⟩ := hal.2.2 _ _ hkV
        obtain ⟨kE', hkE', -⟩ := hal.2.2 _ _ hkE
        refine ⟨rfl, cellV, (show T.heap[y]? = some cellV by rw [hT]; exact g1), (fun q h => by rw [h] at g2; cases g2), ⟨kV', hkV'⟩, ⟨kE', hkE'⟩, ?_⟩
        show vm₁.assignable _ _ = true
        rw [hal.assignable]
        exact hasg)
    (g := F0 X.2.2.2.2.1 pc ls (.int n :: .int dp :: .ref a :: .int sp :: .ref a0 :: rest)) rfl (by rw [C.2.2.1]; exact hla.1) (rest := rest) rfl (by rw [C.2.1]; exact hdg) hf (by show 2 * 0 + _ + _ ≤ _; omega)
  rw [show copied (arrV c0 n0 (fun j => va_rf (f j))) (arrV c1 n1 (fun j => va_rf (g j))) sp dp n = arrV c1 n1 (fun j => va_rf (va_cpy f g sp.toNatClampNeg dp.toNatClampNeg n.toNatClampNeg j)) from va_copied (fun z => va_rf z) c0 c1 f g b4] at Y' step
  exact rb_stored hM hz hla h1 ((c1, n1, aQ (va_cpy f g sp.toNatClampNeg dp.toNatClampNeg n.toNatClampNeg))) rfl hT Y' step (fun z hz => (List.mem_map.mp hz).elim fun w hw => by rw [← hw.2]) (kk _ (va_up_self _ _ _) (fun b hb => va_up_ne _ _ hb))
/-- Math.max, Math.min -/
theorem rb_mmax (C : Cx Ev X own cc nl rt tb) {idx : Nat} {x y : Int32} (l1 : Cond.methodLink own idx Lib.Math.max.name ∈ lw_all) (l2 : Cond.static Lib.Math.max.name ∈ lw_all) (l3 : Cond.initialized "java/lang/Math" ∈ lw_all) (l4 : Cond.code Lib.Math.max.name Lib.Math.max.code 2 (some .int) ∈ lw_all) (hf : 1 ≤ R.frames) (hlo : (rest.map fun v => v.category).sum + 13 ≤ R.locals) (hc : kc ≤ R.cells) (hs : ks ≤ R.slots) (hdg : decode cc pc = .ok (.invokestatic idx, 3)) (k : Wa Ev X R nl hh nn kc ks Q (pc + 3) lc (.int (if x < y then y else x) :: rest)) : Wa Ev X R nl hh nn kc ks Q pc lc (.int y :: .int x :: rest) :=
  fun H locs ls hM hz hla => va_mmax C.1 C.2.1 (by rw [C.2.2.1]; exact hla.1.symm) C.2.2.2.1 (C.2.2.2.2.1 _ l1) (C.2.2.2.2.1 _ l2) (C.2.2.2.2.1 _ l3) (C.2.2.2.2.1 _ l4) hf hlo hc hs hdg (k H locs ls hM hz hla)
theorem rb_mmin (C : Cx Ev X own cc nl rt tb) {idx : Nat} {x y : Int32} (l1 : Cond.methodLink own idx Lib.Math.min.name ∈ lw_all) (l2 : Cond.static Lib.Math.min.name ∈ lw_all) (l3 : Cond.initialized "java/lang/Math" ∈ lw_all) (l4 : Cond.code Lib.Math.min.name Lib.Math.min.code 2 (some .int) ∈ lw_all) (hf : 1 ≤ R.frames) (hlo : (rest.map fun v => v.category).sum + 13 ≤ R.locals) (hc : kc ≤ R.cells) (hs : ks ≤ R.slots) (hdg : decode cc pc = .ok (.invokestatic idx, 3)) (k : Wa Ev X R nl hh nn kc ks Q (pc + 3) lc (.int (if y < x then y else x) :: rest)) : Wa Ev X R nl hh nn kc ks Q pc lc (.int y :: .int x :: rest) :=
  fun H locs ls hM hz hla => va_mmin C.1 C.2.1 (by rw [C.2.2.1]; exact hla.1.symm) C.2.2.2.1 (C.2.2.2.2.1 _ l1) (C.2.2.2.2.1 _ l2) (C.2.2.2.2.1 _ l3) (C.2.2.2.2.1 _ l4) hf hlo hc hs hdg (k H locs ls hM hz hla)
end SYS
