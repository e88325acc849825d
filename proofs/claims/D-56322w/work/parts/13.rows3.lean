set_option maxRecDepth 100000
set_option linter.unusedVariables false
section R3
variable {Ev : rb_E} {X : WX} {R : Room} {own : String} {cc : ByteArray} {nl : Nat} {rt : Option FieldType} {tb : List ExceptionTableEntry} {hh : AH} {nn kc ks : Nat} {Q : State → Prop} {pc : Nat} {lc : List (Nat × Value)} {rest : List Value}
theorem rb_cont5 {rm : Room} {post : rb_R → AH → Nat → Prop} {a : Array Value} {H : Heap} {locs : List Loc} {ls : Array Slot} {st : List Value} (hM : Mt Ev hh nn H) (hz : ∀ z ∈ locs, (eH Ev).size ≤ z.base) (hla : lv_has ls nl lc)
    (hr : vy_Run5 X.1 X.2.1 X.2.2.1 R X.2.2.2.1 X.2.2.2.2.1 X.2.2.2.2.2.1 X.2.2.2.2.2.2.1 X.2.2.2.2.2.2.2.1 X.2.2.2.2.2.2.2.2 H locs kc ks rm.cells rm.slots (F0 X.2.2.2.2.1 pc ls st) rest (rb_Qc Ev post a) (rb_XC Ev post) (rb_A Ev))
    (kx : ∀ (E : String) (q : Nat) (h' : AH) (n' : Nat), nn ≤ n' → post (.inr (E, q)) h' n' → WaX Ev X R nl h' n' (kc + rm.cells) (ks + rm.slots) Q pc lc E q)
    (kk : ∀ (v : Option Value) (h' : AH) (n' : Nat), nn ≤ n' → post (.inl v) h' n' → Wa Ev X R nl h' n' (kc + rm.cells) (ks + rm.slots) Q (pc + 5) lc (v.toList ++ rest)) : W X.1 X.2.1 X.2.2.1 R X.2.2.2.1 X.2.2.2.2.1 X.2.2.2.2.2.1 X.2.2.2.2.2.2.1 X.2.2.2.2.2.2.2.1 X.2.2.2.2.2.2.2.2 H locs kc ks Q (F0 X.2.2.2.2.1 pc ls st) := by
  intro T hT Y
  have hzz : ∀ L : List Loc, (∀ q ∈ L, rb_A Ev q.base) → ∀ z ∈ locs ++ L, (eH Ev).size ≤ z.base := fun L hL z h => (List.mem_append.mp h).elim (hz z) (hL z)
  rcases hr T hT Y with ⟨v, st₀, t, T', L, h0, Y', hL, e1, e2, ⟨v', h', n', hv, hM', hn', hp⟩, st⟩ | ⟨q, st₀, t, T', L, E, ce, h0, Y', hL, e1, e2, ⟨h', n', hM', hn', hp⟩, hce, hcv, hcl, st⟩
  · cases hv
    have hn9 : nn ≤ n' := by rw [h0, hM.1] at hn'; exact hn'
    obtain ⟨t2, a1, b1⟩ := kk v h' n' hn9 hp T'.heap (locs ++ L) ls (by rw [e1]; exact hM') (hzz L hL) hla T' rfl Y'
    exact ⟨t2, st t2 a1, b1⟩
  · have hn9 : nn ≤ n' := by rw [h0, hM.1] at hn'; exact hn'
    obtain ⟨t2, a1, b1⟩ := kx E q h' n' hn9 hp T'.heap (locs ++ L) ls ce rest (by rw [e1]; exact hM') (hzz L hL) hla (by rw [e1]; exact hce) hcv hcl T' rfl Y'
    exact ⟨t2, st.trans a1, b1⟩
/-- a call through an interface -/
def SF (own : String) (idx : Nat) (Cr : String) (x y : MethodName) : Prop := Cond.methodLink own idx x ∈ lw_all ∧ Cond.selects Cr x y ∈ lw_all ∧ Cond.instanceMethod y ∈ lw_all ∧ (Cr, x, y) ∈ rb_fw ∧ parseMethodDescriptor x.desc = parseMethodDescriptor y.desc
theorem rb_callF (C : Cx Ev X own cc nl rt tb) {x y : MethodName} {b : ByteArray} {L n idx count q ci N : Nat} {T : u_T} {ty : Nat → FieldType} {r : Option FieldType} {rm : Room} {post : rb_R → AH → Nat → Prop} {As st : List Value} {Cr : String} (mi : MIc y b L r n) (sl : SF own idx Cr x y) (ck : CK ci Cr T N ty) (hq : IsC Ev hh q Cr) (hc : Ct Ev y (ws_ y b L r) rm (.ref q :: As) hh nn post) (hn : As.length = n) (hst : st = As.reverse ++ .ref q :: rest) (hW : (rest.map fun v => v.category).sum ≤ 8) (hR : RmOk R kc ks L rm) (hdg : decode cc pc = .ok (.invokeinterface idx count, 5))
    (kx : ∀ (E : String) (q : Nat) (h' : AH) (n' : Nat), nn ≤ n' → post (.inr (E, q)) h' n' → WaX Ev X R nl h' n' (kc + rm.cells) (ks + rm.slots) Q pc lc E q)
    (kk : ∀ (v : Option Value) (h' : AH) (n' : Nat), nn ≤ n' → post (.inl v) h' n' → Wa Ev X R nl h' n' (kc + rm.cells) (ks + rm.slots) Q (pc + 5) lc (v.toList ++ rest)) : Wa Ev X R nl hh nn kc ks Q pc lc st := by
  obtain ⟨s1, s2, s3, s4, s5⟩ := sl
  have hF := C.2.2.2.2.2.1.2.2.2.2.2.2.1 _ s4
  have hfo := rb_fw_ok _ s4
  have hG : GoodIn lw_all (ws_ y b L r) := lw_meth mi.1
  have hcm : Cond.code y b L r ∈ ws_ y b L r := List.mem_cons_self
  have hts := C.2.2.2.2.1
  refine fun H locs ls hM hz hla => rb_cont5 hM hz hla (vy_runF (As := As) (Ts := lw_all) (C.2.2.2.2.2.1.1.1 ci _ ck.1).2 ⟨C.1, C.2.1, C.2.2.1, C.2.2.2.1, C.2.2.2.2.1⟩ (hc X.2.1 C.2.2.2.2.2.2.1) (x := x) (C := Cr) (mc := rm.cells) (ms := rm.slots) (index := idx) (n := n) ⟨⟨rfl, rfl, hR.1, hR.2.1, pay_in hts hG, hcm⟩, hts _ s1, va_any rfl hF.1, va_any rfl hF.2.1, hts _ s2, hts _ s3, va_any rfl hF.2.2.1, va_any rfl hF.2.2.2.1, va_any rfl hF.2.2.2.2, hts _ mi.2.1, hts _ mi.1, ⟨hfo.1, hfo.2⟩, fun sig h => ?_⟩ ⟨rb_blind, hq.recv C.2.2.2.2.2.1 hM, fun U hU hW => ⟨rfl, GE.warm hW C.2.2.2.2.2.1, by rw [hU]; exact hM⟩⟩ rfl hn hla.1 hst (by show 2 * 0 + _ ≤ _; omega) hdg hR.2.2) kx kk
  have h2 := mi.2.2.2.2
  rw [← s5, h] at h2
  exact (Option.some.inj h2).symm
/-- class by hp_cls -/
theorem hp_cls_isC {q ci : Nat} {Cn : String} {T : u_T} {N : Nat} {ty : Nat → FieldType} (hp : rb_pf Ev) (x : hp_cls Ev hh q = some ci) (ck : CK ci Cn T N ty) : IsC Ev hh q Cn := by
  obtain ⟨fs, e⟩ := hp_cls_at x
  exact IsC.of (rd_at hp e) ck
/-- a copy of an array -/
def hp_cln (Ev : rb_E) (h : AH) (n t q : Nat) : Option AH := match rd Ev h q with
  | some (.inl (c, x)) => if c = eA Ev t ∧ (∀ i, i < x.1 → fits ((rb_TY Ev).map (fun z => z.2))[t]! ((vp_cell c x).slots.getD i .null) = true) then some (va_up h n (some (.inl (c, x)))) else none
  | _ => none
theorem rb_hcln (C : Cx Ev X own cc nl rt tb) {q idx n : Nat} {ad : String} {h1 : AH} {ty : FieldType} (t : Nat) (l1 : Cond.methodLink own idx ⟨ad, "clone", "()Ljava/lang/Object;"⟩ ∈ lw_all) (l2 : Cond.sameMethod ad "java/lang/Object" "clone" "()Ljava/lang/Object;" ∈ lw_all) (l3 : Cond.native ⟨"java/lang/Object", "clone", "()Ljava/lang/Object;"⟩ ∈ lw_all) (l4 : Cond.instanceMethod ⟨"java/lang/Object", "clone", "()Ljava/lang/Object;"⟩ ∈ lw_all) (l5 : Cond.selects ad ⟨ad, "clone", "()Ljava/lang/Object;"⟩ ⟨"java/lang/Object", "clone", "()Ljava/lang/Object;"⟩ ∈ lw_all) (l6 : Cond.castable ad "java/lang/Cloneable" ∈ lw_tbl) (han : AnN t ad) (ht : (rb_TY Ev)[t]? = some (eA Ev t, ty)) (e : hp_cln Ev hh nn t q = some h1) (e2 : hp_len Ev hh q t = some n) (hf : 1 ≤ R.frames) (hlo : (rest.map fun v => v.category).sum + 14 ≤ R.locals) (hc : kc + 1 ≤ R.cells) (hs : ks + n ≤ R.slots) (hdg : decode cc pc = .ok (.invokevirtual idx, 3)) (kk : Wa Ev X R nl h1 (nn + 1) (kc + 1) (ks + n) Q (pc + 3) lc (.ref nn :: rest)) : Wa Ev X R nl hh nn kc ks Q pc lc (.ref q :: rest) := by
  obtain ⟨f9, g9⟩ := hp_len_at e2
  unfold hp_cln at e
  split at e
  · next c x he =>
    split at e
    · next hg =>
      obtain ⟨rfl, hfit⟩ := hg
      cases e
      cases g9.symm.trans he
      have hty : ((rb_TY Ev).map (fun z => z.2))[t]! = ty := by
        rw [getElem!_def, List.getElem?_map, ht]
        rfl
      rw [hty] at hfit
      have hsz : (vp_cell (eA Ev t) (n, f9)).slots.size = n := by
        rcases f9 with f | f | f | f | f <;> exact arrV_size _ _ _
      have hvm0 : (vp_cell (eA Ev t) (n, f9)).vm = .none := by
        rcases f9 with f | f | f | f | f <;> rfl
      have hcl0 : (vp_cell (eA Ev t) (n, f9)).cls = eA Ev t := by
        rcases f9 with f | f | f | f | f <;> rfl
      have hcellE : ({ cls := (vp_cell (eA Ev t) (n, f9)).cls, slots := (vp_cell (eA Ev t) (n, f9)).slots } : Cell) = vp_cell (eA Ev t) (n, f9) := by
        rcases f9 with f | f | f | f | f <;> rfl
      have hG := C.2.2.2.2.2.1
      have hts := C.2.2.2.2.1
      have hnm := han Ev _ hG.1
      have hcl := hG.2.2.2.1 _ l6 rfl
      obtain ⟨c0, t0', f1, f2, f3⟩ := Cond.castable_spec (va_Nw.use (A := X.2.2.2.2.2.1) rfl hcl)
      cases hnm.symm.trans f1
      intro H locs ls hM hz hla T hT Y
      have hat : H[q]? = some (vp_cell (eA Ev t) (n, f9)) := (rd_at C.pf he).of hM
      have hcellT : T.heap[q]? = some (vp_cell (eA Ev t) (n, f9)) := by rw [hT]; exact hat
      obtain ⟨-, kA, hkA, comp, hkind⟩ := State.isArrayOf_alike Y.warmed.alike ((hG.1.2 t _ ht).1 0 (fun _ => .null))
      obtain ⟨-, kS, hkS, compS, hkindS⟩ := (hG.1.2 t _ ht).1 0 (fun _ => .null)
      obtain ⟨vm', Y', st⟩ := Y.cloneArray C.1 C.2.2.2.1 (hts _ l1) (hts _ l2) (hts _ l3) (hts _ l4) (hts _ l5) (a := q) (cell := vp_cell (eA Ev t) (n, f9)) hcellT (fun k h => by rw [hvm0] at h; cases h) (by rw [hvm0]; exact fun h => by cases h) (by rw [hcl0]; exact hnm) f2 (by rw [hcl0]; exact f3)
        (fun i v hv => by
          have hi : i < n := by
            have := (Array.getElem?_eq_some_iff.mp hv).1
            rw [hsz] at this
            exact this
          have h8 := hfit i hi
          rw [Array.getD_eq_getD_getElem?, hv] at h8
          rw [hcl0]
          have hk' : T.vm.classes[eA Ev t]? = some kA := hkA
          simpa [State.fitsSlot, State.slotType?, hk', hkind] using h8)
        (g := F0 X.2.2.2.2.1 pc ls (.ref q :: rest)) rfl (by rw [C.2.2.1]; exact hla.1) rfl (by rw [C.2.1]; exact hdg) hf (by show 2 * 0 + _ + 14 ≤ _; omega) hc (by rw [hsz]; exact hs) (hloader := by rw [hcl0]; exact Vm.clonesLoader_of_array hkS hkindS)
      rw [hcellE, hsz] at Y'
      have z1 : (H.push (vp_cell (eA Ev t) (n, f9))).size = H.size + 1 := Array.size_push _
      obtain ⟨t1, b1, b2⟩ := kk (H.push (vp_cell (eA Ev t) (n, f9))) locs ls (hM.push (x := (eA Ev t, n, f9)) (by show (H.push _)[nn]? = _; rw [← hM.1, Array.getElem?_push_size]) z1 (fun q hq => by rw [Array.getElem?_push, if_neg (Nat.ne_of_lt hq)])) hz hla ((T.setVm vm').pushCell (vp_cell (eA Ev t) (n, f9))) (by rw [← hT]; rfl) Y'
      refine ⟨t1, st t1 ?_, b2⟩
      rw [hcellE, hT, hM.1]
      exact b1
    · cases e
  · cases e
theorem rb_hgetC (C : Cx Ev X own cc nl rt tb) {q idx n : Nat} (l1 : Cond.methodLink own idx ⟨"java/lang/Object", "getClass", "()Ljava/lang/Class;"⟩ ∈ lw_all) (l2 : Cond.selects "[Ljava/lang/Object;" ⟨"java/lang/Object", "getClass", "()Ljava/lang/Class;"⟩ ⟨"java/lang/Object", "getClass", "()Ljava/lang/Class;"⟩ ∈ lw_all) (l3 : Cond.instanceMethod ⟨"java/lang/Object", "getClass", "()Ljava/lang/Class;"⟩ ∈ lw_all) (l4 : Cond.native ⟨"java/lang/Object", "getClass", "()Ljava/lang/Class;"⟩ ∈ lw_all) (l5 : Cond.declares ⟨"java/lang/Object", "getClass", "()Ljava/lang/Class;"⟩ ∈ lw_tbl) (e : hp_len Ev hh q 6 = some n) (hf : 1 ≤ R.frames) (hlo : (rest.map fun v => v.category).sum + 14 ≤ R.locals) (hdg : decode cc pc = .ok (.invokevirtual idx, 3)) (k : Wa Ev X R nl hh nn kc ks Q (pc + 3) lc (.ref (eM Ev) :: rest)) : Wa Ev X R nl hh nn kc ks Q pc lc (.ref q :: rest) := by
  obtain ⟨f, he⟩ := hp_len_at e
  intro H locs ls hM hz hla
  have hts := C.2.2.2.2.1
  have hG := C.2.2.2.2.2.1
  exact va_getC C.1 C.2.1 (by rw [C.2.2.1]; exact hla.1.symm) C.2.2.2.1 (hts _ l1) (va_Nw.use rfl (hG.2.2.2.1 _ l5 rfl)) (hts _ l2) (hts _ l3) (hts _ l4) hG.2.2.2.2.2.2.2.1 ⟨vp_cell (eA Ev 6) (n, f), (rd_at C.pf he).of hM, by rcases f with f | f | f | f | f <;> rfl, by rw [an_o Ev _ hG.1]; rcases f with f | f | f | f | f <;> rfl⟩ hf hlo hdg (k H locs ls hM hz hla)
/-- the words of 'throw new E()' -/
def TZ (own : String) (ik ic : Nat) (cls : String) (names : List String) : Prop := Bundle.fit cls = true ∧ (∀ n ∈ names, Bundle.fit n = true) ∧ Cond.classLink own ik cls ∈ lw_tbl ∧ Cond.initialized cls ∈ lw_tbl ∧ (∀ w ∈ vy_at0 own ic cls names, w ∈ lw_tbl) ∧ (∀ w ∈ Cond.classLink own ik cls :: Cond.initialized cls :: vy_at0 own ic cls names, vy_ot w = true)
end R3
