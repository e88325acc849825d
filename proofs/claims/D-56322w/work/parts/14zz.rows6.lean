set_option maxRecDepth 100000
set_option linter.unusedVariables false
/-- a contract that asks nothing of its class's start -/
def CtR (Ev : rb_E) (y : MethodName) (ws : List Cond) (rm : Room) (as : List Value) (h : AH) (n : Nat) (post : rb_R → AH → Nat → Prop) : Prop :=
  ∀ l : Launch, l.stackTraces = false → vz_Met l y ws rm (va_Pc as (fun U => GE Ev U ∧ Mt Ev h n U.heap)) (rb_Qc Ev post) (rb_XC Ev post) rm.cells rm.slots (rb_A Ev)
theorem CtR.of {Ev : rb_E} {y : MethodName} {rm : Room} {as : List Value} {h : AH} {n : Nat} {post : rb_R → AH → Nat → Prop} {cc : ByteArray} {nl : Nat} {rt : Option FieldType} (hy : plainName y.cls = true) (hn : (lg_sl as).length ≤ nl)
    (body : ∀ X : WX, Cx Ev X y.cls cc nl rt [] → X.2.2.2.2.2.2.2.1.name = y.name → Wa Ev X rm nl h n 0 0 (rb_MQ Ev X rm post) 0 (lv_args 0 as) []) : CtR Ev y (ws_ y cc nl rt) rm as h n post := by
  intro l hl
  refine vz_of (cc := cc) (maxL := nl) (ret := rt) hy rfl ?_
  intro p e s m args below meth c hex hname hmeth hbytes hml hret hlocks htb hpre hP
  obtain ⟨rfl, hG, hM⟩ := hP
  have hts := atoms_spec (ws := ws_ y cc nl rt) hpre
  have hlv := lv_entry as (n := nl) hn
  have hk := body (p, l, e, s, m, as.toArray, below, meth, c) ⟨hex, hbytes, hml, findClass_of_methodNamed hname, fun w hw => hts w (List.mem_cons_of_mem _ hw), hG, hl, hlocks, hret, List.eq_nil_iff_forall_not_mem.mpr fun x hx => htb x hx, by rw [hM.1]; exact hM.2.1.1, hM.2.2.1⟩ (name_of_methodNamed hname hmeth).1
  rw [lg_entry_eq]
  exact hk s.heap [] _ hM (fun z hz => by cases hz) hlv
section R6
variable {Ev : rb_E} {X : WX} {R : Room} {own : String} {cc : ByteArray} {nl : Nat} {rt : Option FieldType} {tb : List ExceptionTableEntry} {hh : AH} {nn kc ks : Nat} {Q : State → Prop} {pc : Nat} {lc : List (Nat × Value)} {rest : List Value}
def MIr (y : MethodName) (b : ByteArray) (L : Nat) (r : Option FieldType) (n : Nat) : Prop := Cond.code y b L r ∈ lw_all ∧ (parseMethodDescriptor y.desc).map (fun d => d.parameters.length) = some n
theorem rb_callVOR (C : Cx Ev X own cc nl rt tb) {x y : MethodName} {b : ByteArray} {L n idx q : Nat} {r : Option FieldType} {rm : Room} {post : rb_R → AH → Nat → Prop} {As st : List Value} {Cr : String} (mi : MIr y b L r n) (sl : SO own idx Cr x y) (hq : IsC Ev hh q Cr) (hc : CtR Ev y (ws_ y b L r) rm (.ref q :: As) hh nn post) (hn : As.length = n) (hst : st = As.reverse ++ .ref q :: rest) (hW : (rest.map fun v => v.category).sum ≤ 8) (hR : RmOk R kc ks L rm) (hdg : decode cc pc = .ok (.invokevirtual idx, 3))
    (kx : ∀ (E : String) (q : Nat) (h' : AH) (n' : Nat), nn ≤ n' → post (.inr (E, q)) h' n' → WaX Ev X R nl h' n' (kc + rm.cells) (ks + rm.slots) Q pc lc E q)
    (kk : ∀ (v : Option Value) (h' : AH) (n' : Nat), nn ≤ n' → post (.inl v) h' n' → Wa Ev X R nl h' n' (kc + rm.cells) (ks + rm.slots) Q (pc + 3) lc (v.toList ++ rest)) : Wa Ev X R nl hh nn kc ks Q pc lc st := by
  obtain ⟨s1, s2, s3, s4, s5, s6, s7, s8⟩ := sl
  have hdl : va_Decl X.2.2.2.1 x := by
    rcases s5 with s5 | ⟨a1, b1, m1, r1, a2⟩
    · exact va_Decl.abs (C.2.2.2.2.2.1.2.2.2.1 _ s5 rfl)
    · exact va_Decl.of (C.2.2.2.2.1 _ a1) (C.2.2.2.2.1 _ a2)
  have hG : GoodIn lw_all (ws_ y b L r) := lw_meth mi.1
  have hcm : Cond.code y b L r ∈ ws_ y b L r := List.mem_cons_self
  have hts := C.2.2.2.2.1
  refine fun H locs ls hM hz hla => rb_cont hM hz hla (vz_runU (As := As) (Ts := lw_all) ⟨C.1, C.2.1, C.2.2.1, C.2.2.2.1, C.2.2.2.2.1⟩ (hc X.2.1 C.2.2.2.2.2.2.1) (x := x) (owner := x.cls) (C := Cr) (mc := rm.cells) (ms := rm.slots) (index := idx) (n := n) ⟨⟨rfl, rfl, hR.1, hR.2.1, pay_in hts hG, hcm⟩, hts _ mi.1, ⟨s6, s7⟩, fun sig h => ?_, hts _ s1, hts _ s2, hdl, hts _ s3, hts _ s4⟩ ⟨rb_blind, hq.recv C.2.2.2.2.2.1 hM, fun U hU hW => ⟨rfl, GE.warm hW C.2.2.2.2.2.1, by rw [hU]; exact hM⟩⟩ rfl hn hla.1 hst (by show 2 * 0 + _ ≤ _; omega) hdg hR.2.2) kx kk
  have h2 := mi.2
  rw [← s8, h] at h2
  exact (Option.some.inj h2).symm
/-- a nest mate's private method with a table of its own -/
theorem rb_callVNX (C : Cx Ev X own cc nl rt tb) {y : MethodName} {b : ByteArray} {L n idx q : Nat} {r : Option FieldType} {hs : List (Nat × Nat × Nat × Nat)} {rm : Room} {post : rb_R → AH → Nat → Prop} {As st : List Value} {host : String} (mi : MIw y b L r hs n) (sl : SVN own idx y host) (hq : IsC Ev hh q y.cls) (hc : Ct Ev y (wsW_ y b L r hs) rm (.ref q :: As) hh nn post) (hn : As.length = n) (hst : st = As.reverse ++ .ref q :: rest) (hW : (rest.map fun v => v.category).sum ≤ 8) (hR : RmOk R kc ks L rm) (hdg : decode cc pc = .ok (.invokevirtual idx, 3))
    (kx : ∀ (E : String) (q : Nat) (h' : AH) (n' : Nat), nn ≤ n' → post (.inr (E, q)) h' n' → WaX Ev X R nl h' n' (kc + rm.cells) (ks + rm.slots) Q pc lc E q)
    (kk : ∀ (v : Option Value) (h' : AH) (n' : Nat), nn ≤ n' → post (.inl v) h' n' → Wa Ev X R nl h' n' (kc + rm.cells) (ks + rm.slots) Q (pc + 3) lc (v.toList ++ rest)) : Wa Ev X R nl hh nn kc ks Q pc lc st := by
  have hts := C.2.2.2.2.1
  have hG : GoodIn lw_all (wsW_ y b L r hs) := lw_methW mi.1
  refine fun H locs ls hM hz hla => rb_cont hM hz hla (vz_runVNX (As := As) (hh := hs) (C := y.cls) (mc := rm.cells) (ms := rm.slots) (n := n) (index := idx) (bytes := b) (maxL := L) (ret := r) ⟨C.1, C.2.1, C.2.2.1, C.2.2.2.1, C.2.2.2.2.1⟩ (hc X.2.1 C.2.2.2.2.2.2.1) ⟨⟨rfl, rfl, hR.1, hR.2.1, pay_in hts hG, List.mem_cons_self⟩, hts _ mi.1, hts _ mi.2.1, ⟨mi.2.2.1, mi.2.2.2.1⟩, fun sig h => ?_, va_Nw.use rfl (C.2.2.2.2.2.1.2.2.2.1 _ sl.1 rfl), hts _ sl.2.1, hts _ sl.2.2⟩ ⟨rb_blind, hq.recv C.2.2.2.2.2.1 hM, fun U hU hW => ⟨rfl, GE.warm hW C.2.2.2.2.2.1, by rw [hU]; exact hM⟩⟩ rfl hn hla.1 hst (by show 2 * 0 + _ ≤ _; omega) hdg hR.2.2) kx kk
  have h2 := mi.2.2.2.2
  rw [h] at h2
  exact (Option.some.inj h2).symm
/-- an array of ints goes into an array of arrays -/
theorem rb_hasA (C : Cx Ev X own cc nl rt tb) {q v m : Nat} {i : Int32} {h1 : AH} (hv : hp_len Ev hh v 0 = some m) (e : hp_as Ev hh 8 q i (some v) = some h1) (hdg : decode cc pc = .ok (.aastore, 1)) (kk : Wa Ev X R nl h1 nn kc ks Q (pc + 1) lc rest) : Wa Ev X R nl hh nn kc ks Q pc lc (.ref v :: .int i :: .ref q :: rest) := by
  unfold hp_as at e
  split at e
  · next c n f he =>
    split at e
    · next hc =>
      obtain ⟨rfl, hin⟩ := hc
      cases e
      intro H locs ls hM hz hla
      have hG := C.2.2.2.2.2.1
      obtain ⟨fv, hv2⟩ := hp_len_at hv
      have hcv := (rd_at C.pf hv2).of hM
      have hlt : i.toNatClampNeg < n := Nat.not_le.mp fun z => hin (Or.inr z)
      obtain ⟨comp, cA, kA, h3, -, h4, h5, h6⟩ := arrayOverA_spec (s := X.2.2.2.1) hG.2.2.2.2.2.2.2.2.1.1.2
      have h7 : X.2.2.2.1.vm.findClass ("[" ++ (FieldType.array .int).toString) = some (eA Ev 8) := (hG.1.2 8 _ rfl).2
      cases Option.some.inj (h6.symm.trans h7)
      have h8 : X.2.2.2.1.vm.findClass "[I" = some (eA Ev 0) := (hG.1.2 0 _ rfl).2
      have h9 : comp = eA Ev 0 := Option.some.inj (h3.symm.trans h8)
      obtain ⟨kC, hkC, -⟩ := Vm.findClass_spec h8
      have hcl0 : (vp_cell (eA Ev 0) (m, fv)).cls = eA Ev 0 := by rcases fv with g | g | g | g | g <;> rfl
      have hvm0 : (vp_cell (eA Ev 0) (m, fv)).vm = .none := by rcases fv with g | g | g | g | g <;> rfl
      have hB := (hM.2.2.2 q _ he).1
      refine W.aast C.1 C.2.1 (hM.2.2.2 q _ he).2 (fun z h => by cases h) (fun h => by cases h) h4 h5 rfl (by rw [h9]; exact hkC) ⟨fun z => hin (Or.inl z), by show _ < (arrV _ _ _).slots.size; rw [arrV_size]; exact hlt⟩ hcv (fun z h => by rw [hvm0] at h; cases h) (by rw [hcl0]; exact hkC) (by rw [hcl0, h9]; exact va_asg _ _) rfl rfl hdg fun H1 e z oq => ?_
      refine kk H1 _ ls (hM.set he ?_ z oq) (rb_locs hz hB) hla
      show H1[q]? = some (vp_cell _ _)
      rw [e]
      rw [vp_cell_q, vp_cell_q, arrV_store]
      congr 2
      funext j
      by_cases hj : j = i.toNatClampNeg
      · subst hj
        simp [updV, va_up, va_rf]
      · simp [updV, va_up, hj]
    · cases e
  · cases e
/-- not caught here, though handlers stand about: it leaves the method -/
theorem rb_outP (C : Cx Ev X own cc nl rt tb) {rm : Room} {post : rb_R → AH → Nat → Prop} {E : String} {q : Nat} (hpass : ∀ z ∈ tb, covers z pc = false ∨ (z.catchType ≠ 0 ∧ ∃ nm : String, Cond.classLink own z.catchType nm ∈ lw_all ∧ (E, nm) ∈ rb_nc)) (hc : kc ≤ rm.cells) (hs : ks ≤ rm.slots) (hp : post (.inr (E, q)) hh nn) : WaX Ev X R nl hh nn kc ks (rb_MQ Ev X rm post) pc lc E q := by
  intro H locs ls ce rest hM hz hla h1 h2 h3 T hT Y
  have hsz : X.2.2.2.1.heap.size ≤ nn := by rw [← hM.1, ← hT]; exact Y.same.2.1
  exact vy_outP C.2.2.2.1 C.2.2.2.2.2.2.2.1 (fun z hz => by
    rw [C.2.2.2.2.2.2.2.2.2.1] at hz
    exact (hpass z hz).imp id (fun ⟨a, nm, b, c⟩ => ⟨a, nm, C.2.2.2.2.1 _ b, C.2.2.2.2.2.1.2.2.2.2.2.1 _ c⟩)) h1 h2 h3 (fun t ht hW => ⟨hh, nn, by rw [ht]; exact hM, hsz, hp⟩) hz hc hs T hT Y
end R6
