set_option maxRecDepth 100000
set_option linter.unusedVariables false
section R5
variable {Ev : rb_E} {X : WX} {R : Room} {own : String} {cc : ByteArray} {nl : Nat} {rt : Option FieldType} {tb : List ExceptionTableEntry} {hh : AH} {nn kc ks : Nat} {Q : State → Prop} {pc : Nat} {lc : List (Nat × Value)} {rest : List Value}
def hp_j (Ev : rb_E) (h : AH) (q ci k : Nat) : Option Int64 := match hp_fd Ev h q ci k with
  | some (.long x) => some x
  | _ => none
theorem hp_j_at {h : AH} {q ci k : Nat} {v : Int64} (x : hp_j Ev h q ci k = some v) : hp_fd Ev h q ci k = some (.long v) := by
  unfold hp_j at x
  split at x
  · next y he => cases x; exact he
  · cases x
theorem rb_hJ (C : Cx Ev X own cc nl rt tb) {q ci k index : Nat} {x : Int64} (f : FL own index ci k) (e : hp_j Ev hh q ci k = some x) (hdg : decode cc pc = .ok (.getfield index, 3)) (kk : Wa Ev X R nl hh nn kc ks Q (pc + 3) lc (.long x :: rest)) : Wa Ev X R nl hh nn kc ks Q pc lc (.ref q :: rest) := by
  obtain ⟨fs, h1, h2⟩ := hp_fd_at (hp_j_at e)
  exact rb_get C f (rd_at C.pf h1) h2 hdg kk
/-- a field named by a class below its own -/
def FS (own : String) (index ci k : Nat) (ty : FieldType) : Prop := ∃ (C : String) (T : u_T) (N : Nat) (ty0 : Nat → FieldType) (ref : String), CK ci C T N ty0 ∧ k < N ∧ Cond.fieldLink own index ref (T k).2.1 (T k).2.2.1 ∈ lw_all ∧ Cond.sameField ref (T k).1 (T k).2.1 (T k).2.2.1 ∈ lw_all ∧ ty0 k = ty ∧ (T k).2.2.2 = false
theorem rb_same {s : State} {args : Array Value} {ref owner n d : String} (h : (Cond.sameField ref owner n d).before args s = true) : ∀ x, s.fieldFound? owner n d = some x → s.fieldFound? ref n d = some x := by
  intro x hx
  cases hr : s.fieldFound? ref n d with
  | none => simp [Cond.before, Cond.holds, Cond.value, hr] at h
  | some y =>
    obtain ⟨c, k, i, f⟩ := y
    have h2 := Cond.sameField_spec hr h
    rw [hx] at h2
    exact h2.symm
theorem rb_getS (C : Cx Ev X own cc nl rt tb) {q ci k index : Nat} {fs : List Value} {v : Value} {ty : FieldType} (f : FS own index ci k ty) (hq : At Ev hh q (.inr (ci, fs))) (hv : fs[k]? = some v) (hdg : decode cc pc = .ok (.getfield index, 3)) (kk : Wa Ev X R nl hh nn kc ks Q (pc + 3) lc (v :: rest)) : Wa Ev X R nl hh nn kc ks Q pc lc (.ref q :: rest) := by
  obtain ⟨C9, T, N, ty, ref, ⟨hc, hin, hty, hnm⟩, hk, hl, hs, -⟩ := f
  exact fun H locs ls hM hz hla => va_get C.1 C.2.1 C.2.2.2.2.1 hin C.2.2.2.1 C.2.2.2.2.2.1.1 (rb_P1 (hq.of hM)) 0 rfl hc k hk (C.2.2.2.2.1 _ hl) (rb_same (C.2.2.2.2.1 _ hs)) hv hdg (kk H locs ls hM hz hla)
theorem rb_hIS (C : Cx Ev X own cc nl rt tb) {q ci k index : Nat} {x : Int32} {ty : FieldType} (f : FS own index ci k ty) (e : hp_i Ev hh q ci k = some x) (hdg : decode cc pc = .ok (.getfield index, 3)) (kk : Wa Ev X R nl hh nn kc ks Q (pc + 3) lc (.int x :: rest)) : Wa Ev X R nl hh nn kc ks Q pc lc (.ref q :: rest) := by
  obtain ⟨fs, h1, h2⟩ := hp_fd_at (hp_i_at e)
  exact rb_getS C f (rd_at C.pf h1) h2 hdg kk
theorem rb_putS (C : Cx Ev X own cc nl rt tb) {q ci k index : Nat} {fs : List Value} {v : Value} {ty : FieldType} (f : FS own index ci k ty) (hq : hh q = some (.inr (ci, fs))) (hn : narrow ty v = v) (hfit : fits ty v = true) (hl : k < fs.length) (hdg : decode cc pc = .ok (.putfield index, 3))
    (kk : ∀ h' : AH, h' q = some (.inr (ci, fs.set k v)) → (∀ a, a ≠ q → h' a = hh a) → Wa Ev X R nl h' nn kc ks Q (pc + 3) lc rest) : Wa Ev X R nl hh nn kc ks Q pc lc (v :: .ref q :: rest) := by
  obtain ⟨C9, T, N, ty0, ref, ⟨hc, hin, hty, hnm⟩, hk, hlk, hsm, rfl, hfin⟩ := f
  intro H locs ls hM hz hla
  have hK := C.2.2.2.2.2.1.1
  have hts := C.2.2.2.2.1
  have hap := va_apart (own := own) hts hin ty0 hty hnm hK hc
  obtain ⟨r, h1, cell, q1, q2, q3, q4⟩ := (hM.2.2.2 q _ hq).2
  have hr : r = (C9, T, N) := Option.some.inj (h1.symm.trans hc)
  subst hr
  obtain ⟨hS, hfc, kC, hkC, hkind⟩ := hK.1 ci _ hc
  obtain ⟨cf, kf, fi, f, hi, hsl⟩ := hS k hk
  have hlay := hts _ (hin _ (u_in_lay hk))
  unfold u_lay at hlay
  rw [if_neg (by rw [hfin]; decide)] at hlay
  have hst := (u_facts hfc hkC (u_lays hts hin hk) hi).1
  have h6 := u_store hfc hkC hkind hlay hi (hty k hk) hn hfit
  refine W.putK C.1 C.2.1 (f := f) ⟨C.2.2.2.1, hts _ hlk, ⟨_, _, _, rb_same (hts _ hsm) _ hi⟩, hst⟩ (by rw [q2]; exact h6) q1 q3 (by rw [hsl]; exact k2_hasslot (q4 k hk)) rfl rfl hdg fun H' e1 e2 e3 => ?_
  rw [hsl] at e1
  exact kk _ (va_up_self _ _ _) (fun a ha => va_up_ne _ _ ha) H' _ ls (hM.setO hq ⟨_, hc, t_OB.to (V := updV (vp_V fs) k v) ⟨_, e1, q2, q3, t_set q4 hap hk v⟩ (fun j _ => vp_updV_set hl v j)⟩ (fun c hc => by cases hc.symm.trans e1; exact hM.2.1.2 q _ cell hq q1) e2 e3) (rb_locs hz (hM.2.2.2 q _ hq).1) hla
theorem rb_hputS (C : Cx Ev X own cc nl rt tb) {h1 : AH} {q ci k index : Nat} {v : Value} {ty : FieldType} (f : FS own index ci k ty) (e : hp_put hh q ci k v = some h1) (hn : narrow ty v = v) (hfit : fits ty v = true) (hdg : decode cc pc = .ok (.putfield index, 3)) (kk : Wa Ev X R nl h1 nn kc ks Q (pc + 3) lc rest) : Wa Ev X R nl hh nn kc ks Q pc lc (v :: .ref q :: rest) := by
  obtain ⟨fs, g1, g2, rfl⟩ := hp_put_at e
  exact rb_putS C f g1 hn hfit g2 hdg fun h' e1 e2 => by rw [hp_upq e1 e2]; exact kk
/-- an array of arrays of ints -/
theorem rb_hnewqA (C : Cx Ev X own cc nl rt tb) {index : Nat} (hl : Cond.classLink own index "[I" ∈ lw_all) {x : Int32} (g : ¬ (x < 0 ∨ 65536 < x.toNatClampNeg)) (hc : kc + 1 ≤ R.cells) (hs : ks + x.toNatClampNeg ≤ R.slots) (hdg : decode cc pc = .ok (.anewarray index, 3)) (kk : Wa Ev X R nl (va_up hh nn (some (.inl (eA Ev 8, x.toNatClampNeg, aQ (fun _ => none))))) (nn + 1) (kc + 1) (ks + x.toNatClampNeg) Q (pc + 3) lc (.ref nn :: rest)) : Wa Ev X R nl hh nn kc ks Q pc lc (.int x :: rest) := by
  intro H locs ls hM hz hla
  have hts := C.2.2.2.2.1
  have hG := C.2.2.2.2.2.1
  refine W.anewA (t := .int) C.1 C.2.1 C.2.2.2.1 (hts _ hl) (show (Cond.arrayOver (.array .int)).before _ _ = true from hG.2.2.2.2.2.2.2.2.1.1.2) rfl hdg rfl (fun z => g (Or.inl z)) (by have := fun z => g (Or.inr z); omega) hc hs fun cA' kA comp f1 f2 f3 f4 => ?_
  generalize hH1 : H.push ({ cls := cA', slots := Array.replicate x.toNatClampNeg .null, vm := .none } : Cell) = H1
  have z1 : H1.size = H.size + 1 := by rw [← hH1, Array.size_push]
  have e1 : H1[H.size]? = some (arrV cA' x.toNatClampNeg (fun _ => .null)) := by rw [← hH1, Array.getElem?_push_size, ← arrV_new]
  have o1 : ∀ q : Nat, q < H.size → H1[q]? = H[q]? := fun q hq => by rw [← hH1, Array.getElem?_push, if_neg (Nat.ne_of_lt hq)]
  have hcA : cA' = eA Ev 8 := by
    have g1 : X.2.2.2.1.vm.findClass ("[" ++ (FieldType.array .int).toString) = some (eA Ev 8) := (hG.1.2 8 _ rfl).2
    exact Option.some.inj (f1.symm.trans g1)
  subst hcA
  rw [hM.1] at e1 ⊢
  refine kk H1 locs ls (hM.push ?_ z1 o1) hz hla
  show H1[nn]? = some (vp_cell _ _)
  rw [vp_cell_q]
  exact e1
end R5
