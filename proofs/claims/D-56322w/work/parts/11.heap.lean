set_option maxRecDepth 100000
set_option linter.unusedVariables false
/-! THE HEAP'S FUNCTIONS: none where it can't be said -/
def rd (Ev : rb_E) (h : AH) (q : Nat) : Option va_E := match h q with
  | some e => some e
  | none => eK Ev q
theorem rd_h {Ev : rb_E} {h : AH} {q : Nat} {e : va_E} (x : h q = some e) : rd Ev h q = some e := by unfold rd; rw [x]
theorem rd_k {Ev : rb_E} {h : AH} {q : Nat} {e : va_E} (x : h q = none) (y : eK Ev q = some e) : rd Ev h q = some e := by unfold rd; rw [x]; exact y
theorem rd_at {Ev : rb_E} {h : AH} {q : Nat} {e : va_E} (hp : rb_pf Ev) (x : rd Ev h q = some e) : At Ev h q e := by
  unfold rd at x
  split at x
  · next e' he => cases x; exact Or.inl he
  · exact Or.inr (hp.1 _ _ x)
def hp_fd (Ev : rb_E) (h : AH) (q ci k : Nat) : Option Value := match rd Ev h q with
  | some (.inr (c, fs)) => if c = ci then fs[k]? else none
  | _ => none
theorem hp_fd_at {Ev : rb_E} {h : AH} {q ci k : Nat} {v : Value} (x : hp_fd Ev h q ci k = some v) : ∃ fs, rd Ev h q = some (.inr (ci, fs)) ∧ fs[k]? = some v := by
  unfold hp_fd at x
  split at x
  · next c fs he =>
    split at x
    · next hc => subst hc; exact ⟨fs, he, x⟩
    · cases x
  · cases x
def hp_i (Ev : rb_E) (h : AH) (q ci k : Nat) : Option Int32 := match hp_fd Ev h q ci k with
  | some (.int x) => some x
  | _ => none
def hp_p (Ev : rb_E) (h : AH) (q ci k : Nat) : Option Nat := match hp_fd Ev h q ci k with
  | some (.ref x) => some x
  | _ => none
def hp_o (Ev : rb_E) (h : AH) (q ci k : Nat) : Option (Option Nat) := match hp_fd Ev h q ci k with
  | some (.ref x) => some (some x)
  | some .null => some none
  | _ => none
theorem hp_i_at {Ev : rb_E} {h : AH} {q ci k : Nat} {v : Int32} (x : hp_i Ev h q ci k = some v) : hp_fd Ev h q ci k = some (.int v) := by
  unfold hp_i at x
  split at x
  · next y he => cases x; exact he
  · cases x
theorem hp_p_at {Ev : rb_E} {h : AH} {q ci k : Nat} {v : Nat} (x : hp_p Ev h q ci k = some v) : hp_fd Ev h q ci k = some (.ref v) := by
  unfold hp_p at x
  split at x
  · next y he => cases x; exact he
  · cases x
theorem hp_o_at {Ev : rb_E} {h : AH} {q ci k : Nat} {v : Option Nat} (x : hp_o Ev h q ci k = some v) : hp_fd Ev h q ci k = some (va_rf v) := by
  unfold hp_o at x
  split at x
  · next y he => cases x; exact he
  · next he => cases x; exact he
  · cases x
/-- a static reference -/
def hp_sp (Ev : rb_E) (C n : String) : Option Nat := match eV Ev C n with
  | .ref q => some q
  | _ => none
theorem hp_sp_at {Ev : rb_E} {C n : String} {q : Nat} (x : hp_sp Ev C n = some q) : eV Ev C n = .ref q := by
  unfold hp_sp at x
  split at x
  · next y he => cases x; exact he
  · cases x
def hp_so (Ev : rb_E) (C n : String) : Option (Option Nat) := match eV Ev C n with
  | .ref q => some (some q)
  | .null => some none
  | _ => none
theorem hp_so_at {Ev : rb_E} {C n : String} {q : Option Nat} (x : hp_so Ev C n = some q) : eV Ev C n = va_rf q := by
  unfold hp_so at x
  split at x
  · next y he => cases x; exact he
  · next he => cases x; exact he
  · cases x
/-- the class of the object at q -/
def hp_cls (Ev : rb_E) (h : AH) (q : Nat) : Option Nat := match rd Ev h q with
  | some (.inr (c, _)) => some c
  | _ => none
theorem hp_cls_at {Ev : rb_E} {h : AH} {q c : Nat} (x : hp_cls Ev h q = some c) : ∃ fs, rd Ev h q = some (.inr (c, fs)) := by
  unfold hp_cls at x
  split at x
  · next c' fs he => cases x; exact ⟨fs, he⟩
  · cases x
/-- the object at q is of the class ci -/
def hp_k (Ev : rb_E) (h : AH) (q ci : Nat) : Option Unit := match hp_cls Ev h q with
  | some c => if c = ci then some () else none
  | none => none
theorem hp_k_at {Ev : rb_E} {h : AH} {q ci : Nat} {u : Unit} (x : hp_k Ev h q ci = some u) : hp_cls Ev h q = some ci := by
  unfold hp_k at x
  split at x
  · next c hc =>
    split at x
    · next e => rw [← e]; exact hc
    · cases x
  · cases x
theorem hp_k_isC {Ev : rb_E} {h : AH} {q ci : Nat} {u : Unit} {C : String} {T : u_T} {N : Nat} {ty : Nat → FieldType} (hp : rb_pf Ev) (x : hp_k Ev h q ci = some u) (ck : CK ci C T N ty) : IsC Ev h q C := by
  obtain ⟨fs, e⟩ := hp_cls_at (hp_k_at x)
  exact IsC.of (rd_at hp e) ck
/-- which of the six meanings -/
def hp_en (Ev : rb_E) (q : Nat) : Option Nat := (List.range 6).find? fun k => eN Ev k == q
theorem hp_en_at {Ev : rb_E} {q k : Nat} (x : hp_en Ev q = some k) : k < 6 ∧ q = eN Ev k := by
  unfold hp_en at x
  have h1 := List.mem_of_find?_eq_some x
  have h2 := List.find?_some x
  exact ⟨List.mem_range.mp h1, (beq_iff_eq.mp h2).symm⟩
/-- is the object at q one of P (then 1), or of N (then 0) -/
def hp_isa (Ev : rb_E) (h : AH) (q : Nat) (P N : List Nat) : Option Int32 := match hp_cls Ev h q with
  | some c => if c ∈ P then some 1 else if c ∈ N then some 0 else none
  | none => none
def hp_put (h : AH) (q ci k : Nat) (v : Value) : Option AH := match h q with
  | some (.inr (c, fs)) => if c = ci ∧ k < fs.length then some (va_up h q (some (.inr (c, fs.set k v)))) else none
  | _ => none
theorem hp_put_at {h h1 : AH} {q ci k : Nat} {v : Value} (x : hp_put h q ci k v = some h1) : ∃ fs : List Value, h q = some (.inr (ci, fs)) ∧ k < fs.length ∧ h1 = va_up h q (some (.inr (ci, fs.set k v))) := by
  unfold hp_put at x
  split at x
  · next c fs he =>
    split at x
    · next hc => obtain ⟨rfl, hk⟩ := hc; cases x; exact ⟨fs, he, hk, rfl⟩
    · cases x
  · cases x
theorem hp_upq {h h' : AH} {q : Nat} {e : va_E} (e1 : h' q = some e) (e2 : ∀ a, a ≠ q → h' a = h a) : h' = va_up h q (some e) := by
  funext a
  by_cases c : a = q
  · subst c; rw [e1, va_up_self]
  · rw [e2 a c, va_up_ne _ _ c]
def hp_len (Ev : rb_E) (h : AH) (q t : Nat) : Option Nat := match rd Ev h q with
  | some (.inl (c, n, _)) => if c = eA Ev t then some n else none
  | _ => none
theorem hp_len_at {Ev : rb_E} {h : AH} {q t n : Nat} (x : hp_len Ev h q t = some n) : ∃ f, rd Ev h q = some (.inl (eA Ev t, n, f)) := by
  unfold hp_len at x
  split at x
  · next c m f he =>
    split at x
    · next hc => cases x; subst hc; exact ⟨f, he⟩
    · cases x
  · cases x
/-- k cells and s slots more -/
def ad {α : Type} (k s : Nat) (x : Option (α × AH × Nat × Nat)) : Option (α × AH × Nat × Nat) := match x with
  | some (r, h, a, b) => some (r, h, k + a, s + b)
  | none => none
theorem ad_at {α : Type} {k s a b : Nat} {x : Option (α × AH × Nat × Nat)} {r : α} {h : AH} (e : ad k s x = some (r, h, a, b)) : ∃ a' b', x = some (r, h, a', b') ∧ a = k + a' ∧ b = s + b' := by
  unfold ad at e
  split at e
  · cases e; exact ⟨_, _, rfl, rfl, rfl⟩
  · cases e
theorem ad_some {α : Type} (k s : Nat) (r : α) (h : AH) (a b : Nat) : ad k s (some (r, h, a, b)) = some (r, h, k + a, s + b) := rfl
/-- what is still to be used fits: n cells stand, kc and ks are used, a and b come; at the end N cells, C and S used -/
def Bd (N C S n kc ks a b : Nat) : Prop := n + a = N ∧ kc + a ≤ C ∧ ks + b ≤ S
theorem Bd.ad {N C S n kc ks k s a b : Nat} (x : Bd N C S n kc ks (k + a) (s + b)) : Bd N C S (n + k) (kc + k) (ks + s) a b := by
  obtain ⟨h1, h2, h3⟩ := x
  exact ⟨by omega, by omega, by omega⟩
theorem Bd.c {N C S n kc ks k s a b : Nat} (x : Bd N C S n kc ks (k + a) (s + b)) : kc + k ≤ C := by obtain ⟨h1, h2, h3⟩ := x; omega
theorem Bd.s {N C S n kc ks k s a b : Nat} (x : Bd N C S n kc ks (k + a) (s + b)) : ks + s ≤ S := by obtain ⟨h1, h2, h3⟩ := x; omega
theorem Bd.e {N C S n kc ks : Nat} (x : Bd N C S n kc ks 0 0) : n = N ∧ kc ≤ C ∧ ks ≤ S := x
theorem Bd.c0 {N C S n kc ks a b : Nat} (x : Bd N C S n kc ks a b) : kc ≤ C := by obtain ⟨h1, h2, h3⟩ := x; omega
theorem Bd.s0 {N C S n kc ks a b : Nat} (x : Bd N C S n kc ks a b) : ks ≤ S := by obtain ⟨h1, h2, h3⟩ := x; omega
/-- ends of contracts over the whole heap -/
def pX (r : rb_R) (h : AH) (n : Nat) : rb_R → AH → Nat → Prop := fun r' h' n' => r' = r ∧ h' = h ∧ n' = n
def pXi (ty : FieldType) (v : Int32) (h : AH) (n : Nat) : rb_R → AH → Nat → Prop := fun r' h' n' => r' = .inl (some (.int v)) ∧ h' = h ∧ n' = n ∧ narrow ty (.int v) = .int v
def rMap {α : Type} (f : α → Option Value) : α ⊕ (String × Nat) → rb_R
  | .inl v => .inl (f v)
  | .inr e => .inr e
theorem rb_nIx {x : Int32} (h : ¬ x < 0) : nI x.toNatClampNeg = x := by
  have h2 := rb_toInt h
  apply Int32.toInt_inj.mp
  rw [nI_toInt (by have := Int32.toInt_lt x; omega), h2]
section HP
variable {Ev : rb_E} {X : WX} {R : Room} {own : String} {cc : ByteArray} {nl : Nat} {rt : Option FieldType} {tb : List ExceptionTableEntry} {hh : AH} {nn kc ks : Nat} {Q : State → Prop} {pc : Nat} {lc : List (Nat × Value)} {rest : List Value}
theorem rb_kX {r : Option Value} {h : AH} {n : Nat} {P : Option Value → AH → Nat → Prop} (k : P r h n) : ∀ (v' : Option Value) (h' : AH) (n' : Nat), nn ≤ n' → pX (.inl r) h n (.inl v') h' n' → P v' h' n' := by
  rintro v' h' n' - ⟨e, rfl, rfl⟩
  cases e
  exact k
theorem rb_xX {r : Option Value} {h : AH} {n : Nat} {P : String → Nat → AH → Nat → Prop} : ∀ (E : String) (q : Nat) (h' : AH) (n' : Nat), nn ≤ n' → pX (.inl r) h n (.inr (E, q)) h' n' → P E q h' n' := by
  rintro E q h' n' - ⟨e, -, -⟩
  cases e
theorem rb_kY {r : String × Nat} {h : AH} {n : Nat} {P : Option Value → AH → Nat → Prop} : ∀ (v' : Option Value) (h' : AH) (n' : Nat), nn ≤ n' → pX (.inr r) h n (.inl v') h' n' → P v' h' n' := by
  rintro v' h' n' - ⟨e, -, -⟩
  cases e
theorem rb_xY {E : String} {q : Nat} {h : AH} {n : Nat} {P : String → Nat → AH → Nat → Prop} (k : P E q h n) : ∀ (E' : String) (q' : Nat) (h' : AH) (n' : Nat), nn ≤ n' → pX (.inr (E, q)) h n (.inr (E', q')) h' n' → P E' q' h' n' := by
  rintro E' q' h' n' - ⟨e, rfl, rfl⟩
  cases e
  exact k
theorem rb_kXi {ty : FieldType} {v : Int32} {h : AH} {n : Nat} {P : Option Value → AH → Nat → Prop} (k : narrow ty (.int v) = .int v → P (some (.int v)) h n) : ∀ (v' : Option Value) (h' : AH) (n' : Nat), nn ≤ n' → pXi ty v h n (.inl v') h' n' → P v' h' n' := by
  rintro v' h' n' - ⟨e, rfl, rfl, hn⟩
  cases e
  exact k hn
theorem rb_xXi {ty : FieldType} {v : Int32} {h : AH} {n : Nat} {P : String → Nat → AH → Nat → Prop} : ∀ (E : String) (q : Nat) (h' : AH) (n' : Nat), nn ≤ n' → pXi ty v h n (.inr (E, q)) h' n' → P E q h' n' := by
  rintro E q h' n' - ⟨e, -, -, -⟩
  cases e
theorem rb_hI (C : Cx Ev X own cc nl rt tb) {q ci k index : Nat} {x : Int32} (f : FL own index ci k) (e : hp_i Ev hh q ci k = some x) (hdg : decode cc pc = .ok (.getfield index, 3)) (kk : Wa Ev X R nl hh nn kc ks Q (pc + 3) lc (.int x :: rest)) : Wa Ev X R nl hh nn kc ks Q pc lc (.ref q :: rest) := by
  obtain ⟨fs, h1, h2⟩ := hp_fd_at (hp_i_at e)
  exact rb_get C f (rd_at C.pf h1) h2 hdg kk
theorem rb_hP (C : Cx Ev X own cc nl rt tb) {q ci k index x : Nat} (f : FL own index ci k) (e : hp_p Ev hh q ci k = some x) (hdg : decode cc pc = .ok (.getfield index, 3)) (kk : Wa Ev X R nl hh nn kc ks Q (pc + 3) lc (.ref x :: rest)) : Wa Ev X R nl hh nn kc ks Q pc lc (.ref q :: rest) := by
  obtain ⟨fs, h1, h2⟩ := hp_fd_at (hp_p_at e)
  exact rb_get C f (rd_at C.pf h1) h2 hdg kk
theorem rb_hO (C : Cx Ev X own cc nl rt tb) {q ci k index : Nat} {x : Option Nat} (f : FL own index ci k) (e : hp_o Ev hh q ci k = some x) (hdg : decode cc pc = .ok (.getfield index, 3)) (kk : Wa Ev X R nl hh nn kc ks Q (pc + 3) lc (va_rf x :: rest)) : Wa Ev X R nl hh nn kc ks Q pc lc (.ref q :: rest) := by
  obtain ⟨fs, h1, h2⟩ := hp_fd_at (hp_o_at e)
  exact rb_get C f (rd_at C.pf h1) h2 hdg kk
theorem rb_hput (C : Cx Ev X own cc nl rt tb) {h1 : AH} {q ci k index : Nat} {v : Value} {ty : FieldType} (f : FW own index ci k ty) (e : hp_put hh q ci k v = some h1) (hn : narrow ty v = v) (hfit : fits ty v = true) (hdg : decode cc pc = .ok (.putfield index, 3)) (kk : Wa Ev X R nl h1 nn kc ks Q (pc + 3) lc rest) : Wa Ev X R nl hh nn kc ks Q pc lc (v :: .ref q :: rest) := by
  obtain ⟨fs, g1, g2, rfl⟩ := hp_put_at e
  exact rb_put C f g1 hn hfit g2 hdg fun h' e1 e2 => by rw [hp_upq e1 e2]; exact kk
theorem rb_hputF (C : Cx Ev X own cc nl rt tb) {h1 : AH} {q ci k index : Nat} {v : Value} {ty : FieldType} (f : FF own index ci k ty) (hi2 : X.2.2.2.2.2.2.2.1.name = "<init>") (e : hp_put hh q ci k v = some h1) (hn : narrow ty v = v) (hfit : fits ty v = true) (hdg : decode cc pc = .ok (.putfield index, 3)) (kk : Wa Ev X R nl h1 nn kc ks Q (pc + 3) lc rest) : Wa Ev X R nl hh nn kc ks Q pc lc (v :: .ref q :: rest) := by
  obtain ⟨fs, g1, g2, rfl⟩ := hp_put_at e
  exact rb_putF C f hi2 g1 hn hfit g2 hdg fun h' e1 e2 => by rw [hp_upq e1 e2]; exact kk
theorem rb_hlen (C : Cx Ev X own cc nl rt tb) {q t n : Nat} {ty : FieldType} (ht : (rb_TY Ev)[t]? = some (eA Ev t, ty)) (e : hp_len Ev hh q t = some n) (hdg : decode cc pc = .ok (.arraylength, 1)) (kk : Wa Ev X R nl hh nn kc ks Q (pc + 1) lc (.int (nI n) :: rest)) : Wa Ev X R nl hh nn kc ks Q pc lc (.ref q :: rest) := by
  obtain ⟨f, h1⟩ := hp_len_at e
  exact rb_alen C t ht (rd_at C.pf h1) hdg kk
theorem rb_hnew (C : Cx Ev X own cc nl rt tb) {ci N index : Nat} {Cn : String} {T : u_T} {ty : Nat → FieldType} (ck : CK ci Cn T N ty) (hl : Cond.classLink own index Cn ∈ lw_all) (hi : Cond.instantiable Cn N ∈ lw_all) (hn : Cond.initialized Cn ∈ lw_all) (fs : List Value) (hfs : (List.range N).map (fun j => defaultValue (ty j)) = fs) (hc : kc + 1 ≤ R.cells) (hs : ks + N ≤ R.slots) (hdg : decode cc pc = .ok (.new index, 3)) (kk : Wa Ev X R nl (va_up hh nn (some (.inr (ci, fs)))) (nn + 1) (kc + 1) (ks + N) Q (pc + 3) lc (.ref nn :: rest)) : Wa Ev X R nl hh nn kc ks Q pc lc rest :=
  rb_new C ck hl hi hn fs hfs hc hs hdg fun h' e1 e2 _ => by rw [hp_upq e1 e2]; exact kk
theorem rb_hnewa (C : Cx Ev X own cc nl rt tb) (t0 : Nat) {atype : ArrayType} {ty : FieldType} (ht : (rb_TY Ev)[t0]? = some (eA Ev t0, ty)) (hty : newarray.typeOf atype = ty) (hprim : ty.isReference = false) (ha : Cond.arrayClass ty ∈ lw_all) {x : Int32} (g : ¬ (x < 0 ∨ 65536 < x.toNatClampNeg)) (a0 : vp_A) (hv : ∀ cA : ClassId, vp_cell cA a0 = arrV cA x.toNatClampNeg (fun _ => defaultValue ty)) (hc : kc + 1 ≤ R.cells) (hs : ks + x.toNatClampNeg ≤ R.slots) (hdg : decode cc pc = .ok (.newarray atype, 2)) (kk : Wa Ev X R nl (va_up hh nn (some (.inl (eA Ev t0, a0)))) (nn + 1) (kc + 1) (ks + x.toNatClampNeg) Q (pc + 2) lc (.ref nn :: rest)) : Wa Ev X R nl hh nn kc ks Q pc lc (.int x :: rest) :=
  rb_newa C t0 ht hty hprim ha a0 hv (rb_nIx (fun z => g (Or.inl z))).symm (Nat.not_lt.mp fun z => g (Or.inr z)) hc hs hdg fun h' e1 e2 _ => by rw [hp_upq e1 e2]; exact kk
theorem rb_hnewq (C : Cx Ev X own cc nl rt tb) (t0 : Nat) {Ce : String} {index : Nat} (ht : (rb_TY Ev)[t0]? = some (eA Ev t0, .object Ce)) (hl : Cond.classLink own index Ce ∈ lw_all) (ho : Cond.arrayOver (.object Ce) ∈ lw_tbl) {x : Int32} (g : ¬ (x < 0 ∨ 65536 < x.toNatClampNeg)) (hc : kc + 1 ≤ R.cells) (hs : ks + x.toNatClampNeg ≤ R.slots) (hdg : decode cc pc = .ok (.anewarray index, 3)) (kk : Wa Ev X R nl (va_up hh nn (some (.inl (eA Ev t0, x.toNatClampNeg, aQ (fun _ => none))))) (nn + 1) (kc + 1) (ks + x.toNatClampNeg) Q (pc + 3) lc (.ref nn :: rest)) : Wa Ev X R nl hh nn kc ks Q pc lc (.int x :: rest) :=
  rb_newq C t0 ht hl ho (rb_nIx (fun z => g (Or.inl z))).symm (Nat.not_lt.mp fun z => g (Or.inr z)) hc hs hdg fun h' e1 e2 _ => by rw [hp_upq e1 e2]; exact kk

def hp_il (Ev : rb_E) (h : AH) (q : Nat) (i : Int32) : Option Int32 := match rd Ev h q with
  | some (.inl (c, n, .inl f)) => if c = eA Ev 0 ∧ ¬ (i < 0 ∨ n ≤ i.toNatClampNeg) then some (f i.toNatClampNeg) else none
  | _ => none
theorem rb_hil (C : Cx Ev X own cc nl rt tb) {q : Nat} {i : Int32} {x : Int32} (e : hp_il Ev hh q i = some x) (hdg : decode cc pc = .ok (.iaload, 1)) (kk : Wa Ev X R nl hh nn kc ks Q (pc + 1) lc (.int x :: rest)) : Wa Ev X R nl hh nn kc ks Q pc lc (.int i :: .ref q :: rest) := by
  unfold hp_il at e
  split at e
  · next c n f he =>
    split at e
    · next hc =>
      obtain ⟨rfl, hi⟩ := hc
      cases e
      exact rb_iald C (rd_at C.pf he) (rb_nN hi) hdg kk
    · cases e
  · cases e
def hp_is (Ev : rb_E) (h : AH) (q : Nat) (i : Int32) (x : Int32) : Option AH := match h q with
  | some (.inl (c, n, .inl f)) => if c = eA Ev 0 ∧ ¬ (i < 0 ∨ n ≤ i.toNatClampNeg) then some (va_up h q (some (.inl (c, n, .inl (upd f i.toNatClampNeg x))))) else none
  | _ => none
theorem rb_his (C : Cx Ev X own cc nl rt tb) {q : Nat} {i : Int32} {x : Int32} {h1 : AH} (e : hp_is Ev hh q i x = some h1) (hdg : decode cc pc = .ok (.iastore, 1)) (kk : Wa Ev X R nl h1 nn kc ks Q (pc + 1) lc rest) : Wa Ev X R nl hh nn kc ks Q pc lc (.int x :: .int i :: .ref q :: rest) := by
  unfold hp_is at e
  split at e
  · next c n f he =>
    split at e
    · next hc =>
      obtain ⟨rfl, hi⟩ := hc
      cases e
      exact rb_iast C he (rb_nN hi) hdg fun h' e1 e2 => by rw [hp_upq e1 e2]; exact kk
    · cases e
  · cases e
def hp_bl (Ev : rb_E) (h : AH) (q : Nat) (i : Int32) : Option Int32 := match rd Ev h q with
  | some (.inl (c, n, .inl f)) => if c = eA Ev 1 ∧ ¬ (i < 0 ∨ n ≤ i.toNatClampNeg) then some (f i.toNatClampNeg) else none
  | _ => none
theorem rb_hbl (C : Cx Ev X own cc nl rt tb) {q : Nat} {i : Int32} {x : Int32} (e : hp_bl Ev hh q i = some x) (hdg : decode cc pc = .ok (.baload, 1)) (kk : Wa Ev X R nl hh nn kc ks Q (pc + 1) lc (.int x :: rest)) : Wa Ev X R nl hh nn kc ks Q pc lc (.int i :: .ref q :: rest) := by
  unfold hp_bl at e
  split at e
  · next c n f he =>
    split at e
    · next hc =>
      obtain ⟨rfl, hi⟩ := hc
      cases e
      exact rb_bald C (rd_at C.pf he) (rb_nN hi) hdg kk
    · cases e
  · cases e
def hp_bs (Ev : rb_E) (h : AH) (q : Nat) (i : Int32) (x : Int32) : Option AH := match h q with
  | some (.inl (c, n, .inl f)) => if c = eA Ev 1 ∧ ¬ (i < 0 ∨ n ≤ i.toNatClampNeg) then some (va_up h q (some (.inl (c, n, .inl (upd f i.toNatClampNeg (vp_nar .byte x)))))) else none
  | _ => none
theorem rb_hbs (C : Cx Ev X own cc nl rt tb) {q : Nat} {i : Int32} {x : Int32} {h1 : AH} (e : hp_bs Ev hh q i x = some h1) (hdg : decode cc pc = .ok (.bastore, 1)) (kk : Wa Ev X R nl h1 nn kc ks Q (pc + 1) lc rest) : Wa Ev X R nl hh nn kc ks Q pc lc (.int x :: .int i :: .ref q :: rest) := by
  unfold hp_bs at e
  split at e
  · next c n f he =>
    split at e
    · next hc =>
      obtain ⟨rfl, hi⟩ := hc
      cases e
      exact rb_bast C he (rb_nN hi) hdg fun h' e1 e2 => by rw [hp_upq e1 e2]; exact kk
    · cases e
  · cases e
def hp_zl (Ev : rb_E) (h : AH) (q : Nat) (i : Int32) : Option Int32 := match rd Ev h q with
  | some (.inl (c, n, .inl f)) => if c = eA Ev 2 ∧ ¬ (i < 0 ∨ n ≤ i.toNatClampNeg) then some (f i.toNatClampNeg) else none
  | _ => none
theorem rb_hzl (C : Cx Ev X own cc nl rt tb) {q : Nat} {i : Int32} {x : Int32} (e : hp_zl Ev hh q i = some x) (hdg : decode cc pc = .ok (.baload, 1)) (kk : Wa Ev X R nl hh nn kc ks Q (pc + 1) lc (.int x :: rest)) : Wa Ev X R nl hh nn kc ks Q pc lc (.int i :: .ref q :: rest) := by
  unfold hp_zl at e
  split at e
  · next c n f he =>
    split at e
    · next hc =>
      obtain ⟨rfl, hi⟩ := hc
      cases e
      exact rb_zald C (rd_at C.pf he) (rb_nN hi) hdg kk
    · cases e
  · cases e
def hp_zs (Ev : rb_E) (h : AH) (q : Nat) (i : Int32) (x : Int32) : Option AH := match h q with
  | some (.inl (c, n, .inl f)) => if c = eA Ev 2 ∧ ¬ (i < 0 ∨ n ≤ i.toNatClampNeg) then some (va_up h q (some (.inl (c, n, .inl (upd f i.toNatClampNeg (vp_nar .boolean x)))))) else none
  | _ => none
theorem rb_hzs (C : Cx Ev X own cc nl rt tb) {q : Nat} {i : Int32} {x : Int32} {h1 : AH} (e : hp_zs Ev hh q i x = some h1) (hdg : decode cc pc = .ok (.bastore, 1)) (kk : Wa Ev X R nl h1 nn kc ks Q (pc + 1) lc rest) : Wa Ev X R nl hh nn kc ks Q pc lc (.int x :: .int i :: .ref q :: rest) := by
  unfold hp_zs at e
  split at e
  · next c n f he =>
    split at e
    · next hc =>
      obtain ⟨rfl, hi⟩ := hc
      cases e
      exact rb_zast C he (rb_nN hi) hdg fun h' e1 e2 => by rw [hp_upq e1 e2]; exact kk
    · cases e
  · cases e
def hp_cl (Ev : rb_E) (h : AH) (q : Nat) (i : Int32) : Option Int32 := match rd Ev h q with
  | some (.inl (c, n, .inl f)) => if c = eA Ev 3 ∧ ¬ (i < 0 ∨ n ≤ i.toNatClampNeg) then some (f i.toNatClampNeg) else none
  | _ => none
theorem rb_hcl (C : Cx Ev X own cc nl rt tb) {q : Nat} {i : Int32} {x : Int32} (e : hp_cl Ev hh q i = some x) (hdg : decode cc pc = .ok (.caload, 1)) (kk : Wa Ev X R nl hh nn kc ks Q (pc + 1) lc (.int x :: rest)) : Wa Ev X R nl hh nn kc ks Q pc lc (.int i :: .ref q :: rest) := by
  unfold hp_cl at e
  split at e
  · next c n f he =>
    split at e
    · next hc =>
      obtain ⟨rfl, hi⟩ := hc
      cases e
      exact rb_cald C (rd_at C.pf he) (rb_nN hi) hdg kk
    · cases e
  · cases e
def hp_cs (Ev : rb_E) (h : AH) (q : Nat) (i : Int32) (x : Int32) : Option AH := match h q with
  | some (.inl (c, n, .inl f)) => if c = eA Ev 3 ∧ ¬ (i < 0 ∨ n ≤ i.toNatClampNeg) then some (va_up h q (some (.inl (c, n, .inl (upd f i.toNatClampNeg (vp_nar .char x)))))) else none
  | _ => none
theorem rb_hcs (C : Cx Ev X own cc nl rt tb) {q : Nat} {i : Int32} {x : Int32} {h1 : AH} (e : hp_cs Ev hh q i x = some h1) (hdg : decode cc pc = .ok (.castore, 1)) (kk : Wa Ev X R nl h1 nn kc ks Q (pc + 1) lc rest) : Wa Ev X R nl hh nn kc ks Q pc lc (.int x :: .int i :: .ref q :: rest) := by
  unfold hp_cs at e
  split at e
  · next c n f he =>
    split at e
    · next hc =>
      obtain ⟨rfl, hi⟩ := hc
      cases e
      exact rb_cast C he (rb_nN hi) hdg fun h' e1 e2 => by rw [hp_upq e1 e2]; exact kk
    · cases e
  · cases e
def hp_ll (Ev : rb_E) (h : AH) (q : Nat) (i : Int32) : Option Int64 := match rd Ev h q with
  | some (.inl (c, n, .inr (.inl f))) => if c = eA Ev 4 ∧ ¬ (i < 0 ∨ n ≤ i.toNatClampNeg) then some (f i.toNatClampNeg) else none
  | _ => none
theorem rb_hll (C : Cx Ev X own cc nl rt tb) {q : Nat} {i : Int32} {x : Int64} (e : hp_ll Ev hh q i = some x) (hdg : decode cc pc = .ok (.laload, 1)) (kk : Wa Ev X R nl hh nn kc ks Q (pc + 1) lc (.long x :: rest)) : Wa Ev X R nl hh nn kc ks Q pc lc (.int i :: .ref q :: rest) := by
  unfold hp_ll at e
  split at e
  · next c n f he =>
    split at e
    · next hc =>
      obtain ⟨rfl, hi⟩ := hc
      cases e
      exact rb_lald C (rd_at C.pf he) (rb_nN hi) hdg kk
    · cases e
  · cases e
def hp_ls (Ev : rb_E) (h : AH) (q : Nat) (i : Int32) (x : Int64) : Option AH := match h q with
  | some (.inl (c, n, .inr (.inl f))) => if c = eA Ev 4 ∧ ¬ (i < 0 ∨ n ≤ i.toNatClampNeg) then some (va_up h q (some (.inl (c, n, .inr (.inl (vp_updL f i.toNatClampNeg x)))))) else none
  | _ => none
theorem rb_hls (C : Cx Ev X own cc nl rt tb) {q : Nat} {i : Int32} {x : Int64} {h1 : AH} (e : hp_ls Ev hh q i x = some h1) (hdg : decode cc pc = .ok (.lastore, 1)) (kk : Wa Ev X R nl h1 nn kc ks Q (pc + 1) lc rest) : Wa Ev X R nl hh nn kc ks Q pc lc (.long x :: .int i :: .ref q :: rest) := by
  unfold hp_ls at e
  split at e
  · next c n f he =>
    split at e
    · next hc =>
      obtain ⟨rfl, hi⟩ := hc
      cases e
      exact rb_last C he (rb_nN hi) hdg fun h' e1 e2 => by rw [hp_upq e1 e2]; exact kk
    · cases e
  · cases e
def hp_dl (Ev : rb_E) (h : AH) (q : Nat) (i : Int32) : Option UInt64 := match rd Ev h q with
  | some (.inl (c, n, .inr (.inr (.inr (.inl f))))) => if c = eA Ev 5 ∧ ¬ (i < 0 ∨ n ≤ i.toNatClampNeg) then some (f i.toNatClampNeg) else none
  | _ => none
theorem rb_hdl (C : Cx Ev X own cc nl rt tb) {q : Nat} {i : Int32} {x : UInt64} (e : hp_dl Ev hh q i = some x) (hdg : decode cc pc = .ok (.daload, 1)) (kk : Wa Ev X R nl hh nn kc ks Q (pc + 1) lc (.double x :: rest)) : Wa Ev X R nl hh nn kc ks Q pc lc (.int i :: .ref q :: rest) := by
  unfold hp_dl at e
  split at e
  · next c n f he =>
    split at e
    · next hc =>
      obtain ⟨rfl, hi⟩ := hc
      cases e
      exact rb_dald C (rd_at C.pf he) (rb_nN hi) hdg kk
    · cases e
  · cases e
def hp_ds (Ev : rb_E) (h : AH) (q : Nat) (i : Int32) (x : UInt64) : Option AH := match h q with
  | some (.inl (c, n, .inr (.inr (.inr (.inl f))))) => if c = eA Ev 5 ∧ ¬ (i < 0 ∨ n ≤ i.toNatClampNeg) then some (va_up h q (some (.inl (c, n, .inr (.inr (.inr (.inl (va_up f i.toNatClampNeg x)))))))) else none
  | _ => none
theorem rb_hds (C : Cx Ev X own cc nl rt tb) {q : Nat} {i : Int32} {x : UInt64} {h1 : AH} (e : hp_ds Ev hh q i x = some h1) (hdg : decode cc pc = .ok (.dastore, 1)) (kk : Wa Ev X R nl h1 nn kc ks Q (pc + 1) lc rest) : Wa Ev X R nl hh nn kc ks Q pc lc (.double x :: .int i :: .ref q :: rest) := by
  unfold hp_ds at e
  split at e
  · next c n f he =>
    split at e
    · next hc =>
      obtain ⟨rfl, hi⟩ := hc
      cases e
      exact rb_dast C he (rb_nN hi) hdg fun h' e1 e2 => by rw [hp_upq e1 e2]; exact kk
    · cases e
  · cases e
/-- an element that is a reference -/
def hp_ao (Ev : rb_E) (h : AH) (t q : Nat) (i : Int32) : Option (Option Nat) := match rd Ev h q with
  | some (.inl (c, n, .inr (.inr (.inr (.inr f))))) => if c = eA Ev t ∧ ¬ (i < 0 ∨ n ≤ i.toNatClampNeg) then some (f i.toNatClampNeg) else none
  | _ => none
def hp_ap (Ev : rb_E) (h : AH) (t q : Nat) (i : Int32) : Option Nat := (hp_ao Ev h t q i).bind id
theorem hp_ap_at {h : AH} {t q x : Nat} {i : Int32} (e : hp_ap Ev h t q i = some x) : hp_ao Ev h t q i = some (some x) := by
  unfold hp_ap at e
  cases y : hp_ao Ev h t q i with
  | none => rw [y] at e; cases e
  | some z => rw [y] at e; exact congrArg some e
theorem rb_hao (C : Cx Ev X own cc nl rt tb) (t : Nat) {ty : FieldType} {q : Nat} {i : Int32} {x : Option Nat} (ht : (rb_TY Ev)[t]? = some (eA Ev t, ty)) (href : ty.isReference = true) (e : hp_ao Ev hh t q i = some x) (hdg : decode cc pc = .ok (.aaload, 1)) (kk : Wa Ev X R nl hh nn kc ks Q (pc + 1) lc (va_rf x :: rest)) : Wa Ev X R nl hh nn kc ks Q pc lc (.int i :: .ref q :: rest) := by
  unfold hp_ao at e
  split at e
  · next c n f he =>
    split at e
    · next hc =>
      obtain ⟨rfl, hi⟩ := hc
      cases e
      exact rb_aald C t ht href (rd_at C.pf he) (rb_nN hi) hdg kk
    · cases e
  · cases e
theorem rb_hap (C : Cx Ev X own cc nl rt tb) (t : Nat) {ty : FieldType} {q : Nat} {i : Int32} {x : Nat} (ht : (rb_TY Ev)[t]? = some (eA Ev t, ty)) (href : ty.isReference = true) (e : hp_ap Ev hh t q i = some x) (hdg : decode cc pc = .ok (.aaload, 1)) (kk : Wa Ev X R nl hh nn kc ks Q (pc + 1) lc (.ref x :: rest)) : Wa Ev X R nl hh nn kc ks Q pc lc (.int i :: .ref q :: rest) :=
  rb_hao C t ht href (hp_ap_at e) hdg kk
def hp_as (Ev : rb_E) (h : AH) (t q : Nat) (i : Int32) (x : Option Nat) : Option AH := match h q with
  | some (.inl (c, n, .inr (.inr (.inr (.inr f))))) => if c = eA Ev t ∧ ¬ (i < 0 ∨ n ≤ i.toNatClampNeg) then some (va_up h q (some (.inl (c, n, aQ (va_up f i.toNatClampNeg x))))) else none
  | _ => none
theorem rb_has (C : Cx Ev X own cc nl rt tb) (t : Nat) {Ce Cv : String} {q v : Nat} {i : Int32} {h1 : AH} (ht : (rb_TY Ev)[t]? = some (eA Ev t, .object Ce)) (hv : IsC Ev hh v Cv) (hcast : Cond.castable Cv Ce ∈ lw_tbl) (e : hp_as Ev hh t q i (some v) = some h1) (hdg : decode cc pc = .ok (.aastore, 1)) (kk : Wa Ev X R nl h1 nn kc ks Q (pc + 1) lc rest) : Wa Ev X R nl hh nn kc ks Q pc lc (.ref v :: .int i :: .ref q :: rest) := by
  unfold hp_as at e
  split at e
  · next c n f he =>
    split at e
    · next hc =>
      obtain ⟨rfl, hi⟩ := hc
      cases e
      exact rb_aast C t ht he (rb_nN hi) hv hcast hdg fun h' e1 e2 => by rw [hp_upq e1 e2]; exact kk
    · cases e
  · cases e
theorem rb_hasN (C : Cx Ev X own cc nl rt tb) (t : Nat) {Ce : String} {q : Nat} {i : Int32} {h1 : AH} (ht : (rb_TY Ev)[t]? = some (eA Ev t, .object Ce)) (e : hp_as Ev hh t q i none = some h1) (hdg : decode cc pc = .ok (.aastore, 1)) (kk : Wa Ev X R nl h1 nn kc ks Q (pc + 1) lc rest) : Wa Ev X R nl hh nn kc ks Q pc lc (.null :: .int i :: .ref q :: rest) := by
  unfold hp_as at e
  split at e
  · next c n f he =>
    split at e
    · next hc =>
      obtain ⟨rfl, hi⟩ := hc
      cases e
      exact rb_aastN C t ht he (rb_nN hi) hdg fun h' e1 e2 => by rw [hp_upq e1 e2]; exact kk
    · cases e
  · cases e
/-- System.arraycopy, numbers -/
def hp_cpi (Ev : rb_E) (h : AH) (t : Nat) (ty : FieldType) (src : Nat) (sp : Int32) (dst : Nat) (dp n : Int32) : Option AH := match rd Ev h src, h dst with
  | some (.inl (c0, n0, .inl f)), some (.inl (c1, n1, .inl g)) =>
    if (c0 = eA Ev t ∧ c1 = eA Ev t ∧ ¬ sp < 0 ∧ ¬ dp < 0 ∧ ¬ n < 0 ∧ sp.toNatClampNeg + n.toNatClampNeg ≤ n0 ∧ dp.toNatClampNeg + n.toNatClampNeg ≤ n1) ∧ (∀ i, i < n.toNatClampNeg → fits ty (.int (f (sp.toNatClampNeg + i))) = true)
    then some (va_up h dst (some (.inl (c1, n1, .inl (va_cpy f g sp.toNatClampNeg dp.toNatClampNeg n.toNatClampNeg))))) else none
  | _, _ => none
theorem rb_hcpi (C : Cx Ev X own cc nl rt tb) {idx a0 a : Nat} (t : Nat) {ty : FieldType} {sp dp n : Int32} {h1 : AH} (l1 : Cond.methodLink own idx arraycopyName ∈ lw_all) (l2 : Cond.native arraycopyName ∈ lw_all) (l3 : Cond.static arraycopyName ∈ lw_all) (l4 : Cond.initialized "java/lang/System" ∈ lw_all) (ht : (rb_TY Ev)[t]? = some (eA Ev t, ty)) (hprim : refKind ty = false) (e : hp_cpi Ev hh t ty a0 sp a dp n = some h1) (hf : 1 ≤ R.frames) (hlo : (rest.map fun v => v.category).sum + (nativeFrameWords "java/lang/System" "arraycopy" 5 + 11) ≤ R.locals) (hdg : decode cc pc = .ok (.invokestatic idx, 3)) (kk : Wa Ev X R nl h1 nn kc ks Q (pc + 3) lc rest) : Wa Ev X R nl hh nn kc ks Q pc lc (.int n :: .int dp :: .ref a :: .int sp :: .ref a0 :: rest) := by
  unfold hp_cpi at e
  split at e
  · next c0 n0 f c1 n1 g e0 e1 =>
    split at e
    · next hc =>
      obtain ⟨⟨rfl, rfl, b1, b2, b3, b4, b5⟩, b6⟩ := hc
      cases e
      exact rb_copyi C t l1 l2 l3 l4 ht hprim (rd_at C.pf e0) e1 b1 b2 b3 b4 b5 b6 hf hlo hdg fun h' z1 z2 => by rw [hp_upq z1 z2]; exact kk
    · cases e
  · cases e
/-- what stands in a place is none, or of the classes L -/
def hp_el (Ev : rb_E) (h : AH) (L : List Nat) (o : Option Nat) : Bool := match o with
  | none => true
  | some y => match hp_cls Ev h y with
    | none => false
    | some c => decide (c ∈ L)
theorem hp_el_at {h : AH} {L : List Nat} {y : Nat} (e : hp_el Ev h L (some y) = true) : ∃ c, hp_cls Ev h y = some c ∧ c ∈ L := by
  simp only [hp_el] at e
  cases z : hp_cls Ev h y with
  | none => rw [z] at e; cases e
  | some c => rw [z] at e; exact ⟨c, rfl, of_decide_eq_true e⟩
/-- System.arraycopy, references -/
def hp_cpa (Ev : rb_E) (h : AH) (t : Nat) (L : List Nat) (src : Nat) (sp : Int32) (dst : Nat) (dp n : Int32) : Option AH := match rd Ev h src, h dst with
  | some (.inl (c0, n0, .inr (.inr (.inr (.inr f))))), some (.inl (c1, n1, .inr (.inr (.inr (.inr g))))) =>
    if (c0 = eA Ev t ∧ c1 = eA Ev t ∧ ¬ sp < 0 ∧ ¬ dp < 0 ∧ ¬ n < 0 ∧ sp.toNatClampNeg + n.toNatClampNeg ≤ n0 ∧ dp.toNatClampNeg + n.toNatClampNeg ≤ n1) ∧ (∀ i, i < n.toNatClampNeg → hp_el Ev h L (f (sp.toNatClampNeg + i)) = true)
    then some (va_up h dst (some (.inl (c1, n1, aQ (va_cpy f g sp.toNatClampNeg dp.toNatClampNeg n.toNatClampNeg))))) else none
  | _, _ => none
/-- an object of the class c may stand where Ce is asked -/
def OkC (Ce : String) (c : Nat) : Prop := ∃ (C : String) (T : u_T) (N : Nat) (ty : Nat → FieldType), CK c C T N ty ∧ Cond.castable C Ce ∈ lw_tbl
theorem rb_hcpa (C : Cx Ev X own cc nl rt tb) {idx a0 a : Nat} (t : Nat) (L : List Nat) {Ce : String} {sp dp n : Int32} {h1 : AH} (l1 : Cond.methodLink own idx arraycopyName ∈ lw_all) (l2 : Cond.native arraycopyName ∈ lw_all) (l3 : Cond.static arraycopyName ∈ lw_all) (l4 : Cond.initialized "java/lang/System" ∈ lw_all) (ht : (rb_TY Ev)[t]? = some (eA Ev t, .object Ce)) (hL : ∀ c ∈ L, OkC Ce c) (e : hp_cpa Ev hh t L a0 sp a dp n = some h1) (hf : 1 ≤ R.frames) (hlo : (rest.map fun v => v.category).sum + (nativeFrameWords "java/lang/System" "arraycopy" 5 + 11) ≤ R.locals) (hdg : decode cc pc = .ok (.invokestatic idx, 3)) (kk : Wa Ev X R nl h1 nn kc ks Q (pc + 3) lc rest) : Wa Ev X R nl hh nn kc ks Q pc lc (.int n :: .int dp :: .ref a :: .int sp :: .ref a0 :: rest) := by
  unfold hp_cpa at e
  split at e
  · next c0 n0 f c1 n1 g e0 e1 =>
    split at e
    · next hc =>
      obtain ⟨⟨rfl, rfl, b1, b2, b3, b4, b5⟩, b6⟩ := hc
      cases e
      refine rb_copyM C t t l1 l2 l3 l4 ht ht (rd_at C.pf e0) e1 b1 b2 b3 b4 b5 (fun i hi y hy => ?_) hf hlo hdg fun h' z1 z2 => by rw [hp_upq z1 z2]; exact kk
      have b7 := b6 i hi
      rw [hy] at b7
      obtain ⟨c, g1, g2⟩ := hp_el_at b7
      obtain ⟨fs, g3⟩ := hp_cls_at g1
      obtain ⟨Cv, T, N, ty, ck, hcs⟩ := hL c g2
      exact ⟨Cv, IsC.of (rd_at C.pf g3) ck, hcs⟩
    · cases e
  · cases e
theorem rb_hsp (C : Cx Ev X own cc nl rt tb) {index q : Nat} {Cs n d : String} (hl : Cond.fieldLink own index Cs n d ∈ lw_all) (hs : Cond.laysStatic Cs n d ∈ lw_tbl) (e : hp_sp Ev Cs n = some q) (hdg : decode cc pc = .ok (.getstatic index, 3)) (k : Wa Ev X R nl hh nn kc ks Q (pc + 3) lc (.ref q :: rest)) : Wa Ev X R nl hh nn kc ks Q pc lc rest := rb_gets C hl hs (hp_sp_at e) hdg k
theorem rb_hso (C : Cx Ev X own cc nl rt tb) {index : Nat} {q : Option Nat} {Cs n d : String} (hl : Cond.fieldLink own index Cs n d ∈ lw_all) (hs : Cond.laysStatic Cs n d ∈ lw_tbl) (e : hp_so Ev Cs n = some q) (hdg : decode cc pc = .ok (.getstatic index, 3)) (k : Wa Ev X R nl hh nn kc ks Q (pc + 3) lc (va_rf q :: rest)) : Wa Ev X R nl hh nn kc ks Q pc lc rest := rb_gets C hl hs (hp_so_at e) hdg k
/-- of which classes instanceof says yes, and no -/
def OkP (nm : String) (c : Nat) : Prop := ∃ (C : String) (T : u_T) (N : Nat) (ty : Nat → FieldType), CK c C T N ty ∧ (C = nm ∨ Cond.castable C nm ∈ lw_tbl)
def OkN (nm : String) (c : Nat) : Prop := ∃ (C : String) (T : u_T) (N : Nat) (ty : Nat → FieldType), CK c C T N ty ∧ (C, nm) ∈ rb_nc
theorem hp_isa_at {h : AH} {q : Nat} {P N : List Nat} {x : Int32} (e : hp_isa Ev h q P N = some x) : ∃ c, hp_cls Ev h q = some c ∧ ((c ∈ P ∧ x = 1) ∨ (c ∈ N ∧ x = 0)) := by
  unfold hp_isa at e
  split at e
  · next c hc =>
    refine ⟨c, hc, ?_⟩
    split at e
    · next g => cases e; exact Or.inl ⟨g, rfl⟩
    · split at e
      · next g => cases e; exact Or.inr ⟨g, rfl⟩
      · cases e
  · cases e
theorem rb_hin (C : Cx Ev X own cc nl rt tb) {q index : Nat} {nm : String} {P N : List Nat} {x : Int32} (hl : Cond.classLink own index nm ∈ lw_all) (hP : ∀ c ∈ P, OkP nm c) (hN : ∀ c ∈ N, OkN nm c) (e : hp_isa Ev hh q P N = some x) (hdg : decode cc pc = .ok (.instanceof index, 3)) (k : Wa Ev X R nl hh nn kc ks Q (pc + 3) lc (.int x :: rest)) : Wa Ev X R nl hh nn kc ks Q pc lc (.ref q :: rest) := by
  obtain ⟨c, h1, h2⟩ := hp_isa_at e
  obtain ⟨fs, h3⟩ := hp_cls_at h1
  have h4 := rd_at C.pf h3
  rcases h2 with ⟨g, rfl⟩ | ⟨g, rfl⟩
  · obtain ⟨C0, T, N0, ty, ck, rfl | hc⟩ := hP c g
    · exact rb_instS C hl ck (IsC.of h4 ck) hdg k
    · exact rb_instY C hl hc (IsC.of h4 ck) hdg k
  · obtain ⟨C0, T, N0, ty, ck, hc⟩ := hN c g
    exact rb_instNo C hl hc (IsC.of h4 ck) hdg k
def hp_ca (Ev : rb_E) (h : AH) (q : Nat) (P : List Nat) : Option Unit := match hp_cls Ev h q with
  | some c => if c ∈ P then some () else none
  | none => none
theorem hp_ca_at {h : AH} {q : Nat} {P : List Nat} {u : Unit} (e : hp_ca Ev h q P = some u) : ∃ c, hp_cls Ev h q = some c ∧ c ∈ P := by
  unfold hp_ca at e
  split at e
  · next c hc =>
    split at e
    · next g => exact ⟨c, hc, g⟩
    · cases e
  · cases e
theorem rb_hca (C : Cx Ev X own cc nl rt tb) {q index : Nat} {nm : String} {P : List Nat} {u : Unit} (hl : Cond.classLink own index nm ∈ lw_all) (hP : ∀ c ∈ P, OkP nm c) (e : hp_ca Ev hh q P = some u) (hdg : decode cc pc = .ok (.checkcast index, 3)) (k : Wa Ev X R nl hh nn kc ks Q (pc + 3) lc (.ref q :: rest)) : Wa Ev X R nl hh nn kc ks Q pc lc (.ref q :: rest) := by
  obtain ⟨c, h1, g⟩ := hp_ca_at e
  obtain ⟨fs, h3⟩ := hp_cls_at h1
  have h4 := rd_at C.pf h3
  obtain ⟨C0, T, N0, ty, ck, rfl | hc⟩ := hP c g
  · exact rb_castS C hl ck (IsC.of h4 ck) hdg k
  · exact rb_castY C hl hc (IsC.of h4 ck) hdg k
/-- an element of the classes L goes into an array of Object -/
theorem rb_hasL (C : Cx Ev X own cc nl rt tb) (t : Nat) (L : List Nat) {Ce : String} {q v : Nat} {i : Int32} {h1 : AH} {u : Unit} (ht : (rb_TY Ev)[t]? = some (eA Ev t, .object Ce)) (hL : ∀ c ∈ L, OkC Ce c) (hv : hp_ca Ev hh v L = some u) (e : hp_as Ev hh t q i (some v) = some h1) (hdg : decode cc pc = .ok (.aastore, 1)) (kk : Wa Ev X R nl h1 nn kc ks Q (pc + 1) lc rest) : Wa Ev X R nl hh nn kc ks Q pc lc (.ref v :: .int i :: .ref q :: rest) := by
  obtain ⟨c, g1, g⟩ := hp_ca_at hv
  obtain ⟨fs, h3⟩ := hp_cls_at g1
  obtain ⟨C0, T, N0, ty, ck, hc⟩ := hL c g
  exact rb_has C t ht (IsC.of (rd_at C.pf h3) ck) hc e hdg kk
/-- a meaning goes into an array of meanings -/
theorem rb_hasE (C : Cx Ev X own cc nl rt tb) (t : Nat) {Ce : String} {q v k : Nat} {i : Int32} {h1 : AH} (ht : (rb_TY Ev)[t]? = some (eA Ev t, .object Ce)) (hL : ∀ k, k < 6 → Cond.castable (rb_En k) Ce ∈ lw_tbl) (hv : hp_en Ev v = some k) (e : hp_as Ev hh t q i (some v) = some h1) (hdg : decode cc pc = .ok (.aastore, 1)) (kk : Wa Ev X R nl h1 nn kc ks Q (pc + 1) lc rest) : Wa Ev X R nl hh nn kc ks Q pc lc (.ref v :: .int i :: .ref q :: rest) := by
  obtain ⟨g1, g2⟩ := hp_en_at hv
  exact rb_has C t ht (Or.inr ⟨k, g1, g2, rfl⟩) (hL k g1) e hdg kk
end HP
