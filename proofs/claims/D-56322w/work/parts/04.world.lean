set_option maxRecDepth 100000
set_option linter.unusedVariables false
/-! THE WORLD: one abstract heap (what is known of the cells that the run has made), the constants of the launch, and the judgement Wa over them -/
/-- an abstract heap: what is known of the cells made since the law's start -/
abbrev AH : Type := Nat → Option va_E
/-- the launch's constants: classes' numbers and slots, array classes, the heap at the law's start, String constants' addresses, statics' values, the enum's constants, the mirror of Object[] -/
abbrev rb_E : Type := va_G × (Nat → ClassId) × Heap × (String → Nat → Nat) × (String → String → Value) × (Nat → Nat) × Nat × AH
def eD (E : rb_E) : va_G := E.1
def eA (E : rb_E) : Nat → ClassId := E.2.1
def eH (E : rb_E) : Heap := E.2.2.1
def eS (E : rb_E) : String → Nat → Nat := E.2.2.2.1
def eV (E : rb_E) : String → String → Value := E.2.2.2.2.1
def eN (E : rb_E) : Nat → Nat := E.2.2.2.2.2.1
def eM (E : rb_E) : Nat := E.2.2.2.2.2.2.1
/-- what is known of the launch's constants -/
def eK (E : rb_E) : AH := E.2.2.2.2.2.2.2
def rb_A (E : rb_E) : Nat → Prop := fun q => (eH E).size ≤ q
def rb_TY (E : rb_E) : List (ClassId × FieldType) := [(eA E 0, .int), (eA E 1, .byte), (eA E 2, .boolean), (eA E 3, .char), (eA E 4, .long), (eA E 5, .double), (eA E 6, .object "java/lang/Object"), (eA E 7, .object "RainbowOperators$Meaning"), (eA E 8, .array .int), (eA E 9, .object "java/lang/Integer"), (eA E 10, .object "java/lang/Character")]
/-- the words that no reader of steady words carries, and that hold through a run -/
def rb_nwk : Cond → Bool
  | .fieldLinkNest _ _ _ _ _ _ => true
  | .methodLinkNest _ _ _ _ => true
  | .castable _ _ => true
  | .declares _ => true
  | .publicMethod _ => true
  | .arrayOver (.object _) => true
  | _ => false
theorem rb_nw_warm {w : Cond} (hk : rb_nwk w = true) {s U : State} (hW : s.WarmedH U.vm) (h : va_Nw w s) : va_Nw w U := by
  have tr : ∀ {c : Cond}, c.onTables = true → c.before #[] (s.setVm U.vm) = true → c.before #[] U = true := by
    intro c hc h
    have e := Cond.onTables_vm (A := #[]) (A' := #[]) (U := s) (U' := U) U.vm c hc
    have hU : U.setVm U.vm = U := rfl
    rw [hU] at e
    rw [← e]
    exact h
  unfold rb_nwk at hk
  split at hk
  · exact va_Nw.warmF hW h
  · exact va_Nw.warmM hW h
  · exact tr rfl (by rw [Cond.castable_setVm hW.alike]; exact h)
  · exact tr rfl (by rw [Cond.declares_setVm hW.alike]; exact h)
  · exact tr rfl (by rw [Cond.publicMethod_setVm hW.alike]; exact h)
  · exact va_AO.moved hW.alike h
  · exact absurd hk (by decide)
theorem rb_sel_warm {C : String} {x y : MethodName} {s U : State} (hW : s.WarmedH U.vm) (h : va_Nw (.selects C x y) s) : va_Nw (.selects C x y) U := word_at (args := #[]) (a' := #[]) hW (Or.inl (by first | rfl | simp [Cond.onTables, Cond.keeps, Cond.steady])) h
def rb_AA (U : State) : Prop := (Cond.arrayOver (.array .int)).before #[] U = true
theorem rb_AA.moved {u U : State} (hvm : u.vm.Alike U.vm) (h : rb_AA u) : rb_AA U := by
  obtain ⟨comp, c, k, h1, h2, h3, h4, h5⟩ := arrayOverA_spec h
  obtain ⟨k', hk', he⟩ := hvm.2.2 _ _ h3
  have hb : U.vm.bare = u.vm.bare := by first | exact hvm.bare_eq | exact hvm.bare_eq.symm
  have hi : (U.vm.classes.findIdx? fun (x : Class) => match x.kind with | .array component _ => component == comp | _ => false) = some c := by
    have e2 := va_idx_bare U.vm comp
    rw [hb] at e2
    exact e2.symm.trans ((va_idx_bare u.vm comp).trans h2)
  have hkind : k'.kind = .array comp (.array .int) := by rw [he]; exact h4
  have f1 : U.vm.findClass (FieldType.array .int).toString = some comp := by rw [hvm.findClass]; exact h1
  have f2 : U.vm.findClass ("[" ++ (FieldType.array .int).toString) = some c := by rw [hvm.findClass]; exact h5
  unfold rb_AA Cond.before Cond.holds
  simp only [Cond.value]
  rw [f1, Option.bind_some]
  refine (congrArg (fun o : Option Nat => (o.bind (fun c => (U.vm.classes[c]?).map fun (k : Class) => match k.kind with | .array _ ty => decide (ty = FieldType.array .int) && decide (U.vm.findClass ("[" ++ (FieldType.array .int).toString) = some c) | _ => false) == some true)) hi).trans ?_
  simp [hk', hkind, f2]
def rb_En : Nat → String := fun k => match k with
  | 0 => "RainbowOperators$Meaning$1"
  | 1 => "RainbowOperators$Meaning$2"
  | 2 => "RainbowOperators$Meaning$3"
  | 3 => "RainbowOperators$Meaning$4"
  | 4 => "RainbowOperators$Meaning$5"
  | _ => "RainbowOperators$Meaning$6"
def rb_Enm : Nat → String := fun k => match k with
  | 0 => "SUM"
  | 1 => "DIFFERENCE"
  | 2 => "PRODUCT"
  | 3 => "GREATER"
  | 4 => "LESSER"
  | _ => "JOINT"
/-- a text's characters, as numbers -/
def rb_cs (tx : String) : List Nat := tx.toList.map Char.toNat
/-- Java's hash of a text -/
def rb_hash (cs : List Nat) : Int32 := cs.foldl (fun h c => 31 * h + nI c) 0
/-- an array of bytes that holds a text of Latin letters -/
def rb_byt (cs : List Nat) : Nat → Int32 := fun i => sb_b (cs.getD i 0)
def rb_atK (E : rb_E) (q : Nat) (e : va_E) : Prop := va_at (eD E) rb_CL (q, e) (eH E)
/-- an array of references -/
abbrev aQ (f : Nat → Option Nat) : (Nat → Int32) ⊕ (Nat → Int64) ⊕ (Nat → UInt32) ⊕ (Nat → UInt64) ⊕ (Nat → Option Nat) := .inr (.inr (.inr (.inr f)))
/-- what the launch's constants hold -/
def rb_pf (E : rb_E) : Prop :=
  (∀ q e, eK E q = some e → rb_atK E q e) ∧
  (∀ own k tx, Cond.stringRef own k tx ∈ lw_tbl → ∃ (v : Nat) (hz : Int32), eK E (eS E own k) = some (.inr (14, [.ref v, .int 0, .int (rb_hash (rb_cs tx)), .int hz])) ∧ (rb_hash (rb_cs tx) = 0 → hz = 1) ∧ eK E v = some (.inl (eA E 1, (rb_cs tx).length, .inl (rb_byt (rb_cs tx))))) ∧
  (eV E "java/lang/String" "COMPACT_STRINGS" = .int 1 ∧ eV E "java/lang/StringUTF16" "HI_BYTE_SHIFT" = .int 0 ∧ eV E "java/lang/StringUTF16" "LO_BYTE_SHIFT" = .int 8 ∧ eV E "java/lang/StringUTF16" "$assertionsDisabled" = .int 1 ∧ eV E "java/lang/Integer$IntegerCache" "high" = .int 127) ∧
  (∀ k, k < 6 → eV E "RainbowOperators$Meaning" (rb_Enm k) = .ref (eN E k)) ∧ (∀ i j, i < 6 → j < 6 → eN E i = eN E j → i = j) ∧
  (∃ q, eV E "RainbowOperators$Meaning" "$VALUES" = .ref q ∧ eK E q = some (.inl (eA E 7, 6, aQ (fun k => some (eN E k))))) ∧
  (∃ (q : Nat) (ad : Nat → Nat), eV E "java/lang/Integer$IntegerCache" "cache" = .ref q ∧ eK E q = some (.inl (eA E 9, 256, aQ (fun j => some (ad j)))) ∧ ∀ j, j < 256 → eK E (ad j) = some (.inr (18, [.int (nI j - 128)]))) ∧
  (∃ (q : Nat) (ad : Nat → Nat), eV E "java/lang/Character$CharacterCache" "cache" = .ref q ∧ eK E q = some (.inl (eA E 10, 128, aQ (fun j => some (ad j)))) ∧ ∀ j, j < 128 → eK E (ad j) = some (.inr (19, [.int (nI j)]))) ∧
  (∃ q, eV E "java/util/ArrayList" "DEFAULTCAPACITY_EMPTY_ELEMENTDATA" = .ref q ∧ eK E q = some (.inl (eA E 6, 0, aQ (fun _ => none)))) ∧
  (∃ q, eV E "java/util/Optional" "EMPTY" = .ref q ∧ eK E q = some (.inr (28, [.null]))) ∧
  (∃ o, eV E "jdk/internal/util/Preconditions" "SIOOBE_FORMATTER" = va_rf o) ∧ (∃ o, eV E "java/lang/Throwable" "UNASSIGNED_STACK" = va_rf o) ∧ (∃ o, eV E "java/lang/Throwable" "SUPPRESSED_SENTINEL" = va_rf o)
/-- pairs of classes: an object of the first is none of the second -/
def rb_nc : List (String × String) := [("RainbowOperators$Application", "RainbowOperators$Cloud"), ("RainbowOperators$Application", "RainbowOperators$Operand"), ("RainbowOperators$Cloud", "RainbowOperators$Application"), ("RainbowOperators$Cloud", "RainbowOperators$Operand"), ("RainbowOperators$Denial", "RainbowOperators$SyntaxFault"), ("RainbowOperators$Denial", "java/lang/ArithmeticException"), ("RainbowOperators$Denial", "java/lang/IllegalArgumentException"), ("RainbowOperators$Denial", "java/lang/IllegalStateException"), ("RainbowOperators$Denial", "java/lang/IndexOutOfBoundsException"), ("RainbowOperators$Denial", "java/lang/UnsupportedOperationException"), ("RainbowOperators$Denial", "java/util/NoSuchElementException"), ("RainbowOperators$Operand", "RainbowOperators$Application"), ("RainbowOperators$Operand", "RainbowOperators$Cloud"), ("RainbowOperators$SyntaxFault", "RainbowOperators$Denial"), ("RainbowOperators$SyntaxFault", "java/lang/ArithmeticException"), ("RainbowOperators$SyntaxFault", "java/lang/IllegalArgumentException"), ("RainbowOperators$SyntaxFault", "java/lang/IllegalStateException"), ("RainbowOperators$SyntaxFault", "java/lang/IndexOutOfBoundsException"), ("RainbowOperators$SyntaxFault", "java/lang/UnsupportedOperationException"), ("RainbowOperators$SyntaxFault", "java/util/NoSuchElementException"), ("java/lang/ArithmeticException", "RainbowOperators$Denial"), ("java/lang/ArithmeticException", "RainbowOperators$SyntaxFault"), ("java/lang/ArithmeticException", "java/lang/IllegalArgumentException"), ("java/lang/ArithmeticException", "java/lang/IllegalStateException"), ("java/lang/ArithmeticException", "java/lang/IndexOutOfBoundsException"), ("java/lang/ArithmeticException", "java/lang/UnsupportedOperationException"), ("java/lang/ArithmeticException", "java/util/NoSuchElementException"), ("java/lang/IllegalArgumentException", "RainbowOperators$Denial"), ("java/lang/IllegalArgumentException", "RainbowOperators$SyntaxFault"), ("java/lang/IllegalArgumentException", "java/lang/ArithmeticException"), ("java/lang/IllegalArgumentException", "java/lang/IllegalStateException"), ("java/lang/IllegalArgumentException", "java/lang/IndexOutOfBoundsException"), ("java/lang/IllegalArgumentException", "java/lang/UnsupportedOperationException"), ("java/lang/IllegalArgumentException", "java/util/NoSuchElementException"), ("java/lang/IllegalStateException", "RainbowOperators$Denial"), ("java/lang/IllegalStateException", "RainbowOperators$SyntaxFault"), ("java/lang/IllegalStateException", "java/lang/ArithmeticException"), ("java/lang/IllegalStateException", "java/lang/IllegalArgumentException"), ("java/lang/IllegalStateException", "java/lang/IndexOutOfBoundsException"), ("java/lang/IllegalStateException", "java/lang/UnsupportedOperationException"), ("java/lang/IllegalStateException", "java/util/NoSuchElementException"), ("java/lang/IndexOutOfBoundsException", "RainbowOperators$Denial"), ("java/lang/IndexOutOfBoundsException", "RainbowOperators$SyntaxFault"), ("java/lang/IndexOutOfBoundsException", "java/lang/ArithmeticException"), ("java/lang/IndexOutOfBoundsException", "java/lang/IllegalArgumentException"), ("java/lang/IndexOutOfBoundsException", "java/lang/IllegalStateException"), ("java/lang/IndexOutOfBoundsException", "java/lang/UnsupportedOperationException"), ("java/lang/IndexOutOfBoundsException", "java/util/NoSuchElementException"), ("java/lang/StringBuilder", "java/lang/String"), ("java/lang/UnsupportedOperationException", "RainbowOperators$Denial"), ("java/lang/UnsupportedOperationException", "RainbowOperators$SyntaxFault"), ("java/lang/UnsupportedOperationException", "java/lang/ArithmeticException"), ("java/lang/UnsupportedOperationException", "java/lang/IllegalArgumentException"), ("java/lang/UnsupportedOperationException", "java/lang/IllegalStateException"), ("java/lang/UnsupportedOperationException", "java/lang/IndexOutOfBoundsException"), ("java/lang/UnsupportedOperationException", "java/util/NoSuchElementException"), ("java/util/NoSuchElementException", "RainbowOperators$Denial"), ("java/util/NoSuchElementException", "RainbowOperators$SyntaxFault"), ("java/util/NoSuchElementException", "java/lang/ArithmeticException"), ("java/util/NoSuchElementException", "java/lang/IllegalArgumentException"), ("java/util/NoSuchElementException", "java/lang/IllegalStateException"), ("java/util/NoSuchElementException", "java/lang/IndexOutOfBoundsException"), ("java/util/NoSuchElementException", "java/lang/UnsupportedOperationException")]
/-- what calls through interfaces ask -/
def rb_fw : List (String × MethodName × MethodName) := [("java/lang/String", ⟨"java/lang/CharSequence", "length", "()I"⟩, ⟨"java/lang/String", "length", "()I"⟩), ("java/lang/StringBuilder", ⟨"java/lang/CharSequence", "length", "()I"⟩, ⟨"java/lang/StringBuilder", "length", "()I"⟩), ("java/lang/String", ⟨"java/lang/CharSequence", "charAt", "(I)C"⟩, ⟨"java/lang/String", "charAt", "(I)C"⟩), ("java/lang/StringBuilder", ⟨"java/lang/CharSequence", "charAt", "(I)C"⟩, ⟨"java/lang/StringBuilder", "charAt", "(I)C"⟩), ("RainbowOperators$Application", ⟨"RainbowOperators$Part", "place", "()I"⟩, ⟨"RainbowOperators$Application", "place", "()I"⟩), ("RainbowOperators$Cloud", ⟨"RainbowOperators$Part", "place", "()I"⟩, ⟨"RainbowOperators$Cloud", "place", "()I"⟩), ("RainbowOperators$Operand", ⟨"RainbowOperators$Part", "place", "()I"⟩, ⟨"RainbowOperators$Operand", "place", "()I"⟩), ("java/util/ArrayList", ⟨"java/util/List", "add", "(Ljava/lang/Object;)Z"⟩, ⟨"java/util/ArrayList", "add", "(Ljava/lang/Object;)Z"⟩), ("java/util/ArrayList", ⟨"java/util/List", "iterator", "()Ljava/util/Iterator;"⟩, ⟨"java/util/ArrayList", "iterator", "()Ljava/util/Iterator;"⟩), ("java/util/ArrayList$Itr", ⟨"java/util/Iterator", "hasNext", "()Z"⟩, ⟨"java/util/ArrayList$Itr", "hasNext", "()Z"⟩), ("java/util/ArrayList$Itr", ⟨"java/util/Iterator", "next", "()Ljava/lang/Object;"⟩, ⟨"java/util/ArrayList$Itr", "next", "()Ljava/lang/Object;"⟩), ("java/util/ArrayList", ⟨"java/util/List", "size", "()I"⟩, ⟨"java/util/ArrayList", "size", "()I"⟩)]
/-- private methods of a class above: an object of the first class is asked for the second -/
def rb_ps : List (String × MethodName) := [("java/lang/StringBuilder", ⟨"java/lang/AbstractStringBuilder", "appendNull", "()Ljava/lang/AbstractStringBuilder;"⟩), ("java/lang/StringBuilder", ⟨"java/lang/AbstractStringBuilder", "ensureCapacityInternal", "(I)V"⟩), ("java/lang/StringBuilder", ⟨"java/lang/AbstractStringBuilder", "newCapacity", "(I)I"⟩), ("java/lang/StringBuilder", ⟨"java/lang/AbstractStringBuilder", "putStringAt", "(ILjava/lang/String;)V"⟩), ("java/lang/StringBuilder", ⟨"java/lang/AbstractStringBuilder", "inflateIfNeededFor", "(Ljava/lang/String;)V"⟩), ("java/lang/StringBuilder", ⟨"java/lang/AbstractStringBuilder", "inflate", "()V"⟩), ("java/lang/StringBuilder", ⟨"java/lang/AbstractStringBuilder", "inflateIfNeededFor", "(Ljava/lang/AbstractStringBuilder;)V"⟩), ("java/lang/StringBuilder", ⟨"java/lang/AbstractStringBuilder", "appendChars", "(Ljava/lang/String;II)V"⟩), ("java/lang/StringBuilder", ⟨"java/lang/AbstractStringBuilder", "appendChars", "(Ljava/lang/CharSequence;II)V"⟩)]
/-- all that is known of the launch, in a state U -/
def GE (E : rb_E) (U : State) : Prop :=
  va_K (eD E) rb_CL (rb_TY E) U ∧
  (∀ C n d, Cond.laysStatic C n d ∈ lw_tbl → va_Z C n d (eV E C n) (rb_A E) U (eH E)) ∧
  (∀ own k tx, Cond.stringRef own k tx ∈ lw_tbl → vk_R own k tx (eS E own k) U) ∧
  (∀ w ∈ lw_tbl, rb_nwk w = true → va_Nw w U) ∧
  (∀ k, k < 6 → va_O (rb_En k) (eN E k) (rb_A E) U (eH E) ∧ va_OF "java/lang/Enum" "ordinal" "I" (.int (nI k)) (eN E k) (rb_A E) U (eH E)) ∧
  (∀ z ∈ rb_nc, va_Nc z.1 z.2 U) ∧
  (∀ z ∈ rb_fw, va_Fw z.1 z.2.1 z.2.2 U) ∧
  va_Mi "[Ljava/lang/Object;" (eM E) U ∧ ((va_Dc U ∧ rb_AA U) ∧ (∀ z ∈ rb_ps, va_Nw (.selects z.1 z.2 z.2) U) ∧ vy_Zq Bundle.tN "UNASSIGNED_STACK" Bundle.steD (rb_A E) U (eH E) ∧ vy_Zq Bundle.tN "SUPPRESSED_SENTINEL" Bundle.listD (rb_A E) U (eH E)) ∧ rb_pf E
theorem rb_fw_ok : ∀ z ∈ rb_fw, z.2.1.cls ≠ "java/lang/invoke/MethodHandle" ∧ z.2.1.cls ≠ "java/lang/invoke/VarHandle" := by decide +kernel
theorem GE.warm {E : rb_E} {s U : State} (hW : s.WarmedH U.vm) (h : GE E s) : GE E U := by
  obtain ⟨h1, h2, h3, h4, h5, h6, h7, h8, h9, h10⟩ := h
  exact ⟨h1.moved hW.alike, fun C n d hw => (h2 C n d hw).moved hW.alike, fun own k tx hw => (h3 own k tx hw).warm hW, fun w hw hk => rb_nw_warm hk hW (h4 w hw hk), fun k hk => ⟨(h5 k hk).1.moved hW.alike, (h5 k hk).2.moved hW.alike⟩, fun z hz => (h6 z hz).moved hW.alike, fun z hz => (h7 z hz).moved (rb_fw_ok z hz) hW.alike, h8.moved hW.alike, ⟨⟨h9.1.1.moved hW.alike, h9.1.2.moved hW.alike⟩, fun z hz => rb_sel_warm hW (h9.2.1 z hz), h9.2.2.1.moved hW.alike, h9.2.2.2.moved hW.alike⟩, h10⟩
/-- the abstract heap h, of n cells in all, holds in H; no cell that is known is locked -/
def Mt (E : rb_E) (h : AH) (n : Nat) (H : Heap) : Prop :=
  H.size = n ∧ ((eH E).size ≤ n ∧ ∀ q e c, h q = some e → H[q]? = some c → c.monitor = {}) ∧ (∀ q, q < (eH E).size → H[q]? = (eH E)[q]?) ∧ ∀ q e, h q = some e → (eH E).size ≤ q ∧ va_at (eD E) rb_CL (q, e) H
theorem Mt.lt {E : rb_E} {h : AH} {n : Nat} {H : Heap} (hM : Mt E h n H) {q : Nat} {e : va_E} (hq : h q = some e) : q < n := by
  have h1 := (hM.2.2.2 q e hq).2.lt
  rw [hM.1] at h1
  exact h1
theorem rb_mA {D : va_G} {cl : List vw_C} {a : Nat} {x : ClassId × vp_A} {H : Heap} (h : va_at D cl (a, .inl x) H) : ∀ c : Cell, H[a]? = some c → c.monitor = {} := by
  intro c hc
  have h1 : H[a]? = some (vp_cell x.1 x.2) := h
  cases hc.symm.trans h1
  obtain ⟨cA, n, f | f | f | f | f⟩ := x <;> rfl
theorem Mt.setO {E : rb_E} {h : AH} {n : Nat} {H H1 : Heap} (hM : Mt E h n H) {a : Nat} {e0 e : va_E} (hq : h a = some e0) (he : va_at (eD E) rb_CL (a, e) H1) (hm : ∀ c : Cell, H1[a]? = some c → c.monitor = {}) (z : H1.size = H.size) (oq : ∀ q : Nat, q ≠ a → H1[q]? = H[q]?) : Mt E (va_up h a (some e)) n H1 := by
  obtain ⟨h1, ⟨h2, h5⟩, h3, h4⟩ := hM
  have ha := (h4 a _ hq).1
  refine ⟨z.trans h1, ⟨h2, fun q e' c hq' hc => ?_⟩, fun q hq => (oq q (by omega)).trans (h3 q hq), fun q e' hq' => ?_⟩
  · by_cases hqa : q = a
    · subst hqa; exact hm c hc
    · rw [va_up_ne _ _ hqa] at hq'
      exact h5 q _ c hq' (by rw [← oq q hqa]; exact hc)
  · by_cases hqa : q = a
    · subst hqa
      rw [va_up_self] at hq'
      cases hq'
      exact ⟨ha, he⟩
    · rw [va_up_ne _ _ hqa] at hq'
      exact ⟨(h4 q _ hq').1, (h4 q _ hq').2.kept (oq q hqa)⟩
theorem Mt.set {E : rb_E} {h : AH} {n : Nat} {H H1 : Heap} (hM : Mt E h n H) {a : Nat} {e0 : va_E} {x : ClassId × vp_A} (hq : h a = some e0) (he : va_at (eD E) rb_CL (a, .inl x) H1) (z : H1.size = H.size) (oq : ∀ q : Nat, q ≠ a → H1[q]? = H[q]?) : Mt E (va_up h a (some (.inl x))) n H1 := hM.setO hq he (rb_mA he) z oq
theorem Mt.pushO {E : rb_E} {h : AH} {n : Nat} {H H1 : Heap} (hM : Mt E h n H) {e : va_E} (he : va_at (eD E) rb_CL (n, e) H1) (hm : ∀ c : Cell, H1[n]? = some c → c.monitor = {}) (z : H1.size = H.size + 1) (oq : ∀ q : Nat, q < H.size → H1[q]? = H[q]?) : Mt E (va_up h n (some e)) (n + 1) H1 := by
  have hlt : ∀ {q : Nat} {e : va_E}, h q = some e → q < n := fun hq => hM.lt hq
  obtain ⟨h1, ⟨h2, h5⟩, h3, h4⟩ := hM
  refine ⟨by omega, ⟨by omega, fun q e' c hq' hc => ?_⟩, fun q hq => (oq q (by omega)).trans (h3 q hq), fun q e' hq' => ?_⟩
  · by_cases hqa : q = n
    · subst hqa; exact hm c hc
    · rw [va_up_ne _ _ hqa] at hq'
      exact h5 q _ c hq' (by rw [← oq q (by have := hlt hq'; omega)]; exact hc)
  · by_cases hqa : q = n
    · subst hqa
      rw [va_up_self] at hq'
      cases hq'
      exact ⟨h2, he⟩
    · rw [va_up_ne _ _ hqa] at hq'
      exact ⟨(h4 q _ hq').1, (h4 q _ hq').2.kept (oq q (by have := hlt hq'; omega))⟩
theorem Mt.push {E : rb_E} {h : AH} {n : Nat} {H H1 : Heap} (hM : Mt E h n H) {x : ClassId × vp_A} (he : va_at (eD E) rb_CL (n, .inl x) H1) (z : H1.size = H.size + 1) (oq : ∀ q : Nat, q < H.size → H1[q]? = H[q]?) : Mt E (va_up h n (some (.inl x))) (n + 1) H1 := hM.pushO he (rb_mA he) z oq
/-- h' knows all that h knows -/
def AhLe (h h' : AH) : Prop := ∀ q e, h q = some e → h' q = some e
theorem AhLe.rf {h : AH} : AhLe h h := fun _ _ x => x
theorem AhLe.tr {a b c : AH} (h1 : AhLe a b) (h2 : AhLe b c) : AhLe a c := fun q e x => h2 q e (h1 q e x)
/-- what a cell holds, of the run's own or of the launch's constants -/
def At (E : rb_E) (h : AH) (q : Nat) (e : va_E) : Prop := h q = some e ∨ rb_atK E q e
theorem At.le {E : rb_E} {h h' : AH} (hl : AhLe h h') {q : Nat} {e : va_E} (x : At E h q e) : At E h' q e := x.imp (hl q e) id
theorem At.of {E : rb_E} {h : AH} {n : Nat} {H : Heap} (hM : Mt E h n H) {q : Nat} {e : va_E} (x : At E h q e) : va_at (eD E) rb_CL (q, e) H := by
  rcases x with x | x
  · exact (hM.2.2.2 q e x).2
  · have hlt : q < (eH E).size := va_at.lt x
    exact va_at.kept x (hM.2.2.1 q hlt)
abbrev WX : Type := Program × Launch × Env × State × MethodId × Array Value × List Frame × Method × Code
/-- how a call ends: a value or nothing; or thrown: the class, the address -/
abbrev rb_R : Type := Option Value ⊕ (String × Nat)
def Wa (Ev : rb_E) (X : WX) (R : Room) (nl : Nat) (h : AH) (n kc ks : Nat) (Q : State → Prop) (pc : Nat) (lc : List (Nat × Value)) (st : List Value) : Prop :=
  ∀ (H : Heap) (locs : List Loc) (ls : Array Slot), Mt Ev h n H → (∀ z ∈ locs, (eH Ev).size ≤ z.base) → lv_has ls nl lc → W X.1 X.2.1 X.2.2.1 R X.2.2.2.1 X.2.2.2.2.1 X.2.2.2.2.2.1 X.2.2.2.2.2.2.1 X.2.2.2.2.2.2.2.1 X.2.2.2.2.2.2.2.2 H locs kc ks Q (F0 X.2.2.2.2.1 pc ls st)
/-- the same where the exception at q, of class E, flies over the frame -/
def WaX (Ev : rb_E) (X : WX) (R : Room) (nl : Nat) (h : AH) (n kc ks : Nat) (Q : State → Prop) (pc : Nat) (lc : List (Nat × Value)) (E : String) (q : Nat) : Prop :=
  ∀ (H : Heap) (locs : List Loc) (ls : Array Slot) (ce : Cell) (rest : List Value), Mt Ev h n H → (∀ z ∈ locs, (eH Ev).size ≤ z.base) → lv_has ls nl lc → H[q]? = some ce → ce.vm = .none → X.2.2.2.1.vm.findClass E = some ce.cls → vy_W X.1 X.2.1 X.2.2.1 R X.2.2.2.1 X.2.2.2.2.1 X.2.2.2.2.2.1 X.2.2.2.2.2.2.1 X.2.2.2.2.2.2.2.1 X.2.2.2.2.2.2.2.2 H locs kc ks Q (F0 X.2.2.2.2.1 pc ls rest) q
/-- what stands fast in a body: the machine, the code, the class, the words, the launch, the table of handlers, the return type -/
def Cx (Ev : rb_E) (X : WX) (own : String) (cc : ByteArray) (nl : Nat) (rt : Option FieldType) (tb : List ExceptionTableEntry) : Prop :=
  X.1.tables.exec = Jvm.exec ∧ X.2.2.2.2.2.2.2.2.code = cc ∧ X.2.2.2.2.2.2.2.2.maxLocals = nl ∧ X.2.2.2.1.vm.findClass own = some X.2.2.2.2.1.cls ∧ (∀ w ∈ lw_all, w.before X.2.2.2.2.2.1 X.2.2.2.1 = true) ∧ GE Ev X.2.2.2.1 ∧ X.2.1.stackTraces = false ∧ X.2.2.2.2.2.2.2.1.locks = false ∧ X.2.2.2.2.2.2.2.1.sig.returnType = rt ∧ X.2.2.2.2.2.2.2.2.exceptionTable.toList = tb ∧ (eH Ev).size ≤ X.2.2.2.1.heap.size ∧ ∀ q, q < (eH Ev).size → X.2.2.2.1.heap[q]? = (eH Ev)[q]?
def rb_Qc (Ev : rb_E) (post : rb_R → AH → Nat → Prop) : Array Value → State → Outcome → State → Prop := fun _ st o t => ∃ (v : Option Value) (h' : AH) (n' : Nat), o = .returned v ∧ Mt Ev h' n' t.heap ∧ st.heap.size ≤ n' ∧ post (.inl v) h' n'
def rb_XC (Ev : rb_E) (post : rb_R → AH → Nat → Prop) : String → Addr → State → State → Prop := fun E q st t => ∃ (h' : AH) (n' : Nat), Mt Ev h' n' t.heap ∧ st.heap.size ≤ n' ∧ post (.inr (E, q)) h' n'
/-- A CONTRACT: called with 'as' over the heap h (n cells), method y ends, and its end meets 'post' -/
def Ct (Ev : rb_E) (y : MethodName) (ws : List Cond) (rm : Room) (as : List Value) (h : AH) (n : Nat) (post : rb_R → AH → Nat → Prop) : Prop :=
  ∀ l : Launch, l.stackTraces = false → vy_Met l y ws rm (va_Pc as (fun U => GE Ev U ∧ Mt Ev h n U.heap)) (rb_Qc Ev post) (rb_XC Ev post) rm.cells rm.slots (rb_A Ev)
/-- what a body owes at its end -/
def rb_MQ (Ev : rb_E) (X : WX) (rm : Room) (post : rb_R → AH → Nat → Prop) : State → Prop := vy_MQ X.2.2.2.2.2.2.1 (rb_Qc Ev post) (rb_XC Ev post) X.2.2.2.2.2.1 X.2.2.2.1 rm.cells rm.slots (rb_A Ev)
theorem Ct.post {Ev : rb_E} {y : MethodName} {ws : List Cond} {rm : Room} {as : List Value} {h : AH} {n : Nat} {post post' : rb_R → AH → Nat → Prop} (hc : Ct Ev y ws rm as h n post) (hp : ∀ r h' n', post r h' n' → post' r h' n') : Ct Ev y ws rm as h n post' := by
  intro l hl p e h1 h2 h3 s m args below hf ha hP hK
  obtain ⟨t, o, a1, a2, a3, a4⟩ := hc l hl p e h1 h2 h3 s m args below hf ha hP hK
  refine ⟨t, o, a1, a2, a3, ?_⟩
  rcases a4 with ⟨⟨v, h', n', b1, b2, b3, b4⟩, b5⟩ | ⟨q, b1, E, ce, L, ⟨h', n', c1, c2, c3⟩, b2⟩
  · exact Or.inl ⟨⟨v, h', n', b1, b2, b3, hp _ _ _ b4⟩, b5⟩
  · exact Or.inr ⟨q, b1, E, ce, L, ⟨h', n', c1, c2, hp _ _ _ c3⟩, b2⟩
theorem Ct.of {Ev : rb_E} {y : MethodName} {rm : Room} {as : List Value} {h : AH} {n : Nat} {post : rb_R → AH → Nat → Prop} {cc : ByteArray} {nl : Nat} {rt : Option FieldType} (hy : plainName y.cls = true) (hn : (lg_sl as).length ≤ nl)
    (body : ∀ X : WX, Cx Ev X y.cls cc nl rt [] → X.2.2.2.2.2.2.2.1.name = y.name → Wa Ev X rm nl h n 0 0 (rb_MQ Ev X rm post) 0 (lv_args 0 as) []) : Ct Ev y (ws_ y cc nl rt) rm as h n post := by
  intro l hl
  refine vy_ofW (cc := cc) (maxL := nl) (ret := rt) hy rfl ?_
  intro p e s m args below meth c s₁ B hml htb hP
  obtain ⟨rfl, hG, hM⟩ := hP
  have hts := atoms_spec (ws := ws_ y cc nl rt) B.pre
  have hlv := lv_entry as (n := nl) hn
  have hk := body (p, l, e, s, m, as.toArray, below, meth, c) ⟨B.exec, B.bytes, hml, findClass_of_methodNamed B.named, fun w hw => hts w (List.mem_cons_of_mem _ hw), hG, hl, B.notSynchronized, B.returns, List.eq_nil_iff_forall_not_mem.mpr fun x hx => htb x hx, by rw [hM.1]; exact hM.2.1.1, hM.2.2.1⟩ (name_of_methodNamed B.named B.method).1
  rw [lg_entry_eq]
  exact hk s.heap [] _ hM (fun z hz => by cases hz) hlv
theorem Ct.ofH {Ev : rb_E} {y : MethodName} {rm : Room} {as : List Value} {h : AH} {n : Nat} {post : rb_R → AH → Nat → Prop} {cc : ByteArray} {nl : Nat} {rt : Option FieldType} {hs : List (Nat × Nat × Nat × Nat)} (hy : plainName y.cls = true) (hn : (lg_sl as).length ≤ nl)
    (body : ∀ X : WX, Cx Ev X y.cls cc nl rt (tableOf hs) → X.2.2.2.2.2.2.2.1.name = y.name → Wa Ev X rm nl h n 0 0 (rb_MQ Ev X rm post) 0 (lv_args 0 as) []) : Ct Ev y (wsW_ y cc nl rt hs) rm as h n post := by
  intro l hl
  refine vy_ofWH (cc := cc) (maxL := nl) (ret := rt) hy rfl ?_
  intro p e s m args below meth c s₁ B hml hP
  obtain ⟨rfl, hG, hM⟩ := hP
  have hts := atoms_spec (ws := wsW_ y cc nl rt hs) B.pre
  have hlv := lv_entry as (n := nl) hn
  have hk := body (p, l, e, s, m, as.toArray, below, meth, c) ⟨B.exec, B.bytes, hml, findClass_of_methodNamed B.named, fun w hw => hts w (List.mem_cons_of_mem _ hw), hG, hl, B.notSynchronized, B.returns, vy_table (x := y) B (hts _ List.mem_cons_self), by rw [hM.1]; exact hM.2.1.1, hM.2.2.1⟩ (name_of_methodNamed B.named B.method).1
  rw [lg_entry_eq]
  exact hk s.heap [] _ hM (fun z hz => by cases hz) hlv
section RB
variable {Ev : rb_E} {X : WX} {R : Room} {own : String} {cc : ByteArray} {nl : Nat} {rt : Option FieldType} {tb : List ExceptionTableEntry} {hh : AH} {nn kc ks : Nat} {Q : State → Prop} {pc : Nat} {lc : List (Nat × Value)} {rest : List Value}
/-- what the heap's size says -/
theorem rb_dom (k : (∀ q e, hh q = some e → q < nn ∧ (eH Ev).size ≤ q) → Wa Ev X R nl hh nn kc ks Q pc lc rest) : Wa Ev X R nl hh nn kc ks Q pc lc rest := fun H locs ls hM hz hla => k (fun q e hq => ⟨hM.lt hq, (hM.2.2.2 q e hq).1⟩) H locs ls hM hz hla
/-- fewer locals, another order -/
theorem rb_sub {lc' : List (Nat × Value)} (ps : List Nat) (hp : lv_pick lc ps = lc') (k : Wa Ev X R nl hh nn kc ks Q pc lc' rest) : Wa Ev X R nl hh nn kc ks Q pc lc rest := fun H locs ls hM hz hla => k H locs ls hM hz (lv_sub hla ps hp)
/-- less is known -/
theorem rb_wide {k n : Nat} (h1 : kc ≤ k) (h2 : ks ≤ n) (kk : Wa Ev X R nl hh nn k n Q pc lc rest) : Wa Ev X R nl hh nn kc ks Q pc lc rest := fun H locs ls hM hz hla => W.widen h1 h2 (kk H locs ls hM hz hla)
theorem rb_wideX {k n : Nat} {E : String} {q : Nat} (h1 : kc ≤ k) (h2 : ks ≤ n) (kk : WaX Ev X R nl hh nn k n Q pc lc E q) : WaX Ev X R nl hh nn kc ks Q pc lc E q := fun H locs ls ce rest hM hz hla a b c => vy_widen h1 h2 (kk H locs ls ce rest hM hz hla a b c)
theorem rb_iconst (C : Cx Ev X own cc nl rt tb) {n : Int} {v : Int32} (hdg : decode cc pc = .ok (.iconst n, 1)) (hv : Int32.ofInt n = v) (k : Wa Ev X R nl hh nn kc ks Q (pc + 1) lc (.int v :: rest)) : Wa Ev X R nl hh nn kc ks Q pc lc (rest) := fun H locs ls hM hz hla => lv_iconst C.1 C.2.1 hdg hv (k H locs ls hM hz hla)
theorem rb_bipush (C : Cx Ev X own cc nl rt tb) {n : Int} {v : Int32} (hdg : decode cc pc = .ok (.bipush n, 2)) (hv : (Int8.ofInt n).toInt32 = v) (k : Wa Ev X R nl hh nn kc ks Q (pc + 2) lc (.int v :: rest)) : Wa Ev X R nl hh nn kc ks Q pc lc (rest) := fun H locs ls hM hz hla => lv_bipush C.1 C.2.1 hdg hv (k H locs ls hM hz hla)
theorem rb_sipush (C : Cx Ev X own cc nl rt tb) {n : Int} {v : Int32} (hdg : decode cc pc = .ok (.sipush n, 3)) (hv : (Int16.ofInt n).toInt32 = v) (k : Wa Ev X R nl hh nn kc ks Q (pc + 3) lc (.int v :: rest)) : Wa Ev X R nl hh nn kc ks Q pc lc (rest) := fun H locs ls hM hz hla => lv_sipush C.1 C.2.1 hdg hv (k H locs ls hM hz hla)
theorem rb_lconst (C : Cx Ev X own cc nl rt tb) {n : Fin 2} {v : Int64} (hdg : decode cc pc = .ok (.lconst n, 1)) (hv : Int64.ofNat (n : Nat) = v) (k : Wa Ev X R nl hh nn kc ks Q (pc + 1) lc (.long v :: rest)) : Wa Ev X R nl hh nn kc ks Q pc lc (rest) := fun H locs ls hM hz hla => lv_lconst C.1 C.2.1 hdg hv (k H locs ls hM hz hla)
theorem rb_iload_n (C : Cx Ev X own cc nl rt tb) {k : Fin 4} {i : Nat} {x : Int32} (hdg : decode cc pc = .ok (.iload_n k, 1)) (hi : (k : Nat) = i) (t : Nat) (htt : lc[t]? = some (i, (.int x))) (k : Wa Ev X R nl hh nn kc ks Q (pc + 1) lc (.int x :: rest)) : Wa Ev X R nl hh nn kc ks Q pc lc (rest) := fun H locs ls hM hz hla => lv_iload_n C.1 C.2.1 hdg hi (lv_at hla t htt) (k H locs ls hM hz hla)
theorem rb_iload (C : Cx Ev X own cc nl rt tb) {i : Nat} {x : Int32} (hdg : decode cc pc = .ok (.iload i, 2)) (t : Nat) (htt : lc[t]? = some (i, (.int x))) (k : Wa Ev X R nl hh nn kc ks Q (pc + 2) lc (.int x :: rest)) : Wa Ev X R nl hh nn kc ks Q pc lc (rest) := fun H locs ls hM hz hla => lv_iload C.1 C.2.1 hdg (lv_at hla t htt) (k H locs ls hM hz hla)
theorem rb_lload_n (C : Cx Ev X own cc nl rt tb) {k : Fin 4} {i : Nat} {x : Int64} (hdg : decode cc pc = .ok (.lload_n k, 1)) (hi : (k : Nat) = i) (t : Nat) (htt : lc[t]? = some (i, (.long x))) (k : Wa Ev X R nl hh nn kc ks Q (pc + 1) lc (.long x :: rest)) : Wa Ev X R nl hh nn kc ks Q pc lc (rest) := fun H locs ls hM hz hla => lv_lload_n C.1 C.2.1 hdg hi (lv_at hla t htt) (k H locs ls hM hz hla)
theorem rb_lload (C : Cx Ev X own cc nl rt tb) {i : Nat} {x : Int64} (hdg : decode cc pc = .ok (.lload i, 2)) (t : Nat) (htt : lc[t]? = some (i, (.long x))) (k : Wa Ev X R nl hh nn kc ks Q (pc + 2) lc (.long x :: rest)) : Wa Ev X R nl hh nn kc ks Q pc lc (rest) := fun H locs ls hM hz hla => lv_lload C.1 C.2.1 hdg (lv_at hla t htt) (k H locs ls hM hz hla)
theorem rb_aload_n (C : Cx Ev X own cc nl rt tb) {k : Fin 4} {i : Nat} {x : Nat} (hdg : decode cc pc = .ok (.aload_n k, 1)) (hi : (k : Nat) = i) (t : Nat) (htt : lc[t]? = some (i, (.ref x))) (k : Wa Ev X R nl hh nn kc ks Q (pc + 1) lc (.ref x :: rest)) : Wa Ev X R nl hh nn kc ks Q pc lc (rest) := fun H locs ls hM hz hla => lv_aload_n C.1 C.2.1 hdg hi (lv_at hla t htt) (k H locs ls hM hz hla)
theorem rb_aload (C : Cx Ev X own cc nl rt tb) {i : Nat} {x : Nat} (hdg : decode cc pc = .ok (.aload i, 2)) (t : Nat) (htt : lc[t]? = some (i, (.ref x))) (k : Wa Ev X R nl hh nn kc ks Q (pc + 2) lc (.ref x :: rest)) : Wa Ev X R nl hh nn kc ks Q pc lc (rest) := fun H locs ls hM hz hla => lv_aload C.1 C.2.1 hdg (lv_at hla t htt) (k H locs ls hM hz hla)
theorem rb_istore_n (C : Cx Ev X own cc nl rt tb) {k : Fin 4} {i : Nat} {x : Int32} {lv' : List (Nat × Value)} (hdg : decode cc pc = .ok (.istore_n k, 1)) (hi : (k : Nat) = i) (hn : i < nl) (hl : (i, Value.int x) :: lc.filter (fun q => !(q.1 == i) && !(q.1 + 1 == i && q.2.category == 2)) = lv') (kk : Wa Ev X R nl hh nn kc ks Q (pc + 1) lv' rest) : Wa Ev X R nl hh nn kc ks Q pc lc (.int x :: rest) := fun H locs ls hM hz hla => lv_istore_n C.1 C.2.1 hdg hi hla hn hl (fun ls' hl' => kk H locs ls' hM hz hl')
theorem rb_istore (C : Cx Ev X own cc nl rt tb) {i : Nat} {x : Int32} {lv' : List (Nat × Value)} (hdg : decode cc pc = .ok (.istore i, 2)) (hn : i < nl) (hl : (i, Value.int x) :: lc.filter (fun q => !(q.1 == i) && !(q.1 + 1 == i && q.2.category == 2)) = lv') (kk : Wa Ev X R nl hh nn kc ks Q (pc + 2) lv' rest) : Wa Ev X R nl hh nn kc ks Q pc lc (.int x :: rest) := fun H locs ls hM hz hla => lv_istore C.1 C.2.1 hdg hla hn hl (fun ls' hl' => kk H locs ls' hM hz hl')
theorem rb_lstore_n (C : Cx Ev X own cc nl rt tb) {k : Fin 4} {i : Nat} {x : Int64} {lv' : List (Nat × Value)} (hdg : decode cc pc = .ok (.lstore_n k, 1)) (hi : (k : Nat) = i) (hn : i + 1 < nl) (hl : (i, Value.long x) :: lc.filter (fun q => !(q.1 == i) && (!(q.1 == i + 1) && !(q.1 + 1 == i && q.2.category == 2))) = lv') (kk : Wa Ev X R nl hh nn kc ks Q (pc + 1) lv' rest) : Wa Ev X R nl hh nn kc ks Q pc lc (.long x :: rest) := fun H locs ls hM hz hla => lv_lstore_n C.1 C.2.1 hdg hi hla hn hl (fun ls' hl' => kk H locs ls' hM hz hl')
theorem rb_lstore (C : Cx Ev X own cc nl rt tb) {i : Nat} {x : Int64} {lv' : List (Nat × Value)} (hdg : decode cc pc = .ok (.lstore i, 2)) (hn : i + 1 < nl) (hl : (i, Value.long x) :: lc.filter (fun q => !(q.1 == i) && (!(q.1 == i + 1) && !(q.1 + 1 == i && q.2.category == 2))) = lv') (kk : Wa Ev X R nl hh nn kc ks Q (pc + 2) lv' rest) : Wa Ev X R nl hh nn kc ks Q pc lc (.long x :: rest) := fun H locs ls hM hz hla => lv_lstore C.1 C.2.1 hdg hla hn hl (fun ls' hl' => kk H locs ls' hM hz hl')
theorem rb_astore_n (C : Cx Ev X own cc nl rt tb) {k : Fin 4} {i : Nat} {x : Nat} {lv' : List (Nat × Value)} (hdg : decode cc pc = .ok (.astore_n k, 1)) (hi : (k : Nat) = i) (hn : i < nl) (hl : (i, Value.ref x) :: lc.filter (fun q => !(q.1 == i) && !(q.1 + 1 == i && q.2.category == 2)) = lv') (kk : Wa Ev X R nl hh nn kc ks Q (pc + 1) lv' rest) : Wa Ev X R nl hh nn kc ks Q pc lc (.ref x :: rest) := fun H locs ls hM hz hla => lv_astore_n C.1 C.2.1 hdg hi hla hn hl (fun ls' hl' => kk H locs ls' hM hz hl')
theorem rb_astore (C : Cx Ev X own cc nl rt tb) {i : Nat} {x : Nat} {lv' : List (Nat × Value)} (hdg : decode cc pc = .ok (.astore i, 2)) (hn : i < nl) (hl : (i, Value.ref x) :: lc.filter (fun q => !(q.1 == i) && !(q.1 + 1 == i && q.2.category == 2)) = lv') (kk : Wa Ev X R nl hh nn kc ks Q (pc + 2) lv' rest) : Wa Ev X R nl hh nn kc ks Q pc lc (.ref x :: rest) := fun H locs ls hM hz hla => lv_astore C.1 C.2.1 hdg hla hn hl (fun ls' hl' => kk H locs ls' hM hz hl')
theorem rb_iinc (C : Cx Ev X own cc nl rt tb) {i k : Nat} {n : Int} {x v : Int32} {lv' : List (Nat × Value)} (hdg : decode cc pc = .ok (.iinc i n, 3)) (hk : lc[k]? = some (i, .int x)) (hv : x + Int32.ofInt n = v) (hn : i < nl) (hl : (i, Value.int v) :: lc.filter (fun q => !(q.1 == i) && !(q.1 + 1 == i && q.2.category == 2)) = lv') (kk : Wa Ev X R nl hh nn kc ks Q (pc + 3) lv' rest) : Wa Ev X R nl hh nn kc ks Q pc lc rest := fun H locs ls hM hz hla => lv_iinc C.1 C.2.1 hdg hla hk hv hn hl (fun ls' hl' => kk H locs ls' hM hz hl')
theorem rb_iadd (C : Cx Ev X own cc nl rt tb) {x y : Int32} (hdg : decode cc pc = .ok (.iadd, 1)) (k : Wa Ev X R nl hh nn kc ks Q (pc + 1) lc (.int (x + y) :: rest)) : Wa Ev X R nl hh nn kc ks Q pc lc (.int y :: .int x :: rest) := fun H locs ls hM hz hla => lv_iadd C.1 C.2.1 hdg (k H locs ls hM hz hla)
theorem rb_isub (C : Cx Ev X own cc nl rt tb) {x y : Int32} (hdg : decode cc pc = .ok (.isub, 1)) (k : Wa Ev X R nl hh nn kc ks Q (pc + 1) lc (.int (x - y) :: rest)) : Wa Ev X R nl hh nn kc ks Q pc lc (.int y :: .int x :: rest) := fun H locs ls hM hz hla => lv_isub C.1 C.2.1 hdg (k H locs ls hM hz hla)
theorem rb_imul (C : Cx Ev X own cc nl rt tb) {x y : Int32} (hdg : decode cc pc = .ok (.imul, 1)) (k : Wa Ev X R nl hh nn kc ks Q (pc + 1) lc (.int (x * y) :: rest)) : Wa Ev X R nl hh nn kc ks Q pc lc (.int y :: .int x :: rest) := fun H locs ls hM hz hla => lv_imul C.1 C.2.1 hdg (k H locs ls hM hz hla)
theorem rb_iand (C : Cx Ev X own cc nl rt tb) {x y : Int32} (hdg : decode cc pc = .ok (.iand, 1)) (k : Wa Ev X R nl hh nn kc ks Q (pc + 1) lc (.int (x &&& y) :: rest)) : Wa Ev X R nl hh nn kc ks Q pc lc (.int y :: .int x :: rest) := fun H locs ls hM hz hla => lv_iand C.1 C.2.1 hdg (k H locs ls hM hz hla)
theorem rb_ior (C : Cx Ev X own cc nl rt tb) {x y : Int32} (hdg : decode cc pc = .ok (.ior, 1)) (k : Wa Ev X R nl hh nn kc ks Q (pc + 1) lc (.int (x ||| y) :: rest)) : Wa Ev X R nl hh nn kc ks Q pc lc (.int y :: .int x :: rest) := fun H locs ls hM hz hla => lv_ior C.1 C.2.1 hdg (k H locs ls hM hz hla)
theorem rb_ixor (C : Cx Ev X own cc nl rt tb) {x y : Int32} (hdg : decode cc pc = .ok (.ixor, 1)) (k : Wa Ev X R nl hh nn kc ks Q (pc + 1) lc (.int (x ^^^ y) :: rest)) : Wa Ev X R nl hh nn kc ks Q pc lc (.int y :: .int x :: rest) := fun H locs ls hM hz hla => lv_ixor C.1 C.2.1 hdg (k H locs ls hM hz hla)
theorem rb_idiv (C : Cx Ev X own cc nl rt tb) {x y : Int32} (hdg : decode cc pc = .ok (.idiv, 1)) (hne : ¬ y = 0) (k : Wa Ev X R nl hh nn kc ks Q (pc + 1) lc (.int (x / y) :: rest)) : Wa Ev X R nl hh nn kc ks Q pc lc (.int y :: .int x :: rest) := fun H locs ls hM hz hla => lv_idiv C.1 C.2.1 hdg hne (k H locs ls hM hz hla)
theorem rb_irem (C : Cx Ev X own cc nl rt tb) {x y : Int32} (hdg : decode cc pc = .ok (.irem, 1)) (hne : ¬ y = 0) (k : Wa Ev X R nl hh nn kc ks Q (pc + 1) lc (.int (x - x / y * y) :: rest)) : Wa Ev X R nl hh nn kc ks Q pc lc (.int y :: .int x :: rest) := fun H locs ls hM hz hla => lv_irem C.1 C.2.1 hdg hne (k H locs ls hM hz hla)
theorem rb_ineg (C : Cx Ev X own cc nl rt tb) {x : Int32} (hdg : decode cc pc = .ok (.ineg, 1)) (k : Wa Ev X R nl hh nn kc ks Q (pc + 1) lc (.int (-x) :: rest)) : Wa Ev X R nl hh nn kc ks Q pc lc (.int x :: rest) := fun H locs ls hM hz hla => lv_ineg C.1 C.2.1 hdg (k H locs ls hM hz hla)
theorem rb_ladd (C : Cx Ev X own cc nl rt tb) {x y : Int64} (hdg : decode cc pc = .ok (.ladd, 1)) (k : Wa Ev X R nl hh nn kc ks Q (pc + 1) lc (.long (x + y) :: rest)) : Wa Ev X R nl hh nn kc ks Q pc lc (.long y :: .long x :: rest) := fun H locs ls hM hz hla => lv_ladd C.1 C.2.1 hdg (k H locs ls hM hz hla)
theorem rb_lsub (C : Cx Ev X own cc nl rt tb) {x y : Int64} (hdg : decode cc pc = .ok (.lsub, 1)) (k : Wa Ev X R nl hh nn kc ks Q (pc + 1) lc (.long (x - y) :: rest)) : Wa Ev X R nl hh nn kc ks Q pc lc (.long y :: .long x :: rest) := fun H locs ls hM hz hla => lv_lsub C.1 C.2.1 hdg (k H locs ls hM hz hla)
theorem rb_lmul (C : Cx Ev X own cc nl rt tb) {x y : Int64} (hdg : decode cc pc = .ok (.lmul, 1)) (k : Wa Ev X R nl hh nn kc ks Q (pc + 1) lc (.long (x * y) :: rest)) : Wa Ev X R nl hh nn kc ks Q pc lc (.long y :: .long x :: rest) := fun H locs ls hM hz hla => lv_lmul C.1 C.2.1 hdg (k H locs ls hM hz hla)
theorem rb_lneg (C : Cx Ev X own cc nl rt tb) {x : Int64} (hdg : decode cc pc = .ok (.lneg, 1)) (k : Wa Ev X R nl hh nn kc ks Q (pc + 1) lc (.long (-x) :: rest)) : Wa Ev X R nl hh nn kc ks Q pc lc (.long x :: rest) := fun H locs ls hM hz hla => lv_lneg C.1 C.2.1 hdg (k H locs ls hM hz hla)
theorem rb_ishl (C : Cx Ev X own cc nl rt tb) {x y : Int32} (hdg : decode cc pc = .ok (.ishl, 1)) (k : Wa Ev X R nl hh nn kc ks Q (pc + 1) lc (.int (x <<< (y &&& 31)) :: rest)) : Wa Ev X R nl hh nn kc ks Q pc lc (.int y :: .int x :: rest) := fun H locs ls hM hz hla => lv_ishl C.1 C.2.1 hdg (k H locs ls hM hz hla)
theorem rb_ishr (C : Cx Ev X own cc nl rt tb) {x y : Int32} (hdg : decode cc pc = .ok (.ishr, 1)) (k : Wa Ev X R nl hh nn kc ks Q (pc + 1) lc (.int (x >>> (y &&& 31)) :: rest)) : Wa Ev X R nl hh nn kc ks Q pc lc (.int y :: .int x :: rest) := fun H locs ls hM hz hla => lv_ishr C.1 C.2.1 hdg (k H locs ls hM hz hla)
theorem rb_i2l (C : Cx Ev X own cc nl rt tb) {x : Int32} {v : Int64} (hdg : decode cc pc = .ok (.i2l, 1)) (hv : x.toInt64 = v) (k : Wa Ev X R nl hh nn kc ks Q (pc + 1) lc (.long v :: rest)) : Wa Ev X R nl hh nn kc ks Q pc lc (.int x :: rest) := fun H locs ls hM hz hla => lv_i2l C.1 C.2.1 hdg hv (k H locs ls hM hz hla)
theorem rb_l2i (C : Cx Ev X own cc nl rt tb) {x : Int64} {v : Int32} (hdg : decode cc pc = .ok (.l2i, 1)) (hv : x.toInt32 = v) (k : Wa Ev X R nl hh nn kc ks Q (pc + 1) lc (.int v :: rest)) : Wa Ev X R nl hh nn kc ks Q pc lc (.long x :: rest) := fun H locs ls hM hz hla => lv_l2i C.1 C.2.1 hdg hv (k H locs ls hM hz hla)
theorem rb_i2b (C : Cx Ev X own cc nl rt tb) {x : Int32} {v : Int32} (hdg : decode cc pc = .ok (.i2b, 1)) (hv : x.toInt8.toInt32 = v) (k : Wa Ev X R nl hh nn kc ks Q (pc + 1) lc (.int v :: rest)) : Wa Ev X R nl hh nn kc ks Q pc lc (.int x :: rest) := fun H locs ls hM hz hla => lv_i2b C.1 C.2.1 hdg hv (k H locs ls hM hz hla)
theorem rb_i2s (C : Cx Ev X own cc nl rt tb) {x : Int32} {v : Int32} (hdg : decode cc pc = .ok (.i2s, 1)) (hv : x.toInt16.toInt32 = v) (k : Wa Ev X R nl hh nn kc ks Q (pc + 1) lc (.int v :: rest)) : Wa Ev X R nl hh nn kc ks Q pc lc (.int x :: rest) := fun H locs ls hM hz hla => lv_i2s C.1 C.2.1 hdg hv (k H locs ls hM hz hla)
theorem rb_i2c (C : Cx Ev X own cc nl rt tb) {x : Int32} {v : Int32} (hdg : decode cc pc = .ok (.i2c, 1)) (hv : (x.toUInt32 % 65536).toInt32 = v) (k : Wa Ev X R nl hh nn kc ks Q (pc + 1) lc (.int v :: rest)) : Wa Ev X R nl hh nn kc ks Q pc lc (.int x :: rest) := fun H locs ls hM hz hla => lv_i2c C.1 C.2.1 hdg hv (k H locs ls hM hz hla)
theorem rb_iushr (C : Cx Ev X own cc nl rt tb) {x y v : Int32} (hdg : decode cc pc = .ok (.iushr, 1)) (hv : (x.toUInt32 >>> (y.toUInt32 &&& Int32.toUInt32 31)).toInt32 = v) (k : Wa Ev X R nl hh nn kc ks Q (pc + 1) lc (.int v :: rest)) : Wa Ev X R nl hh nn kc ks Q pc lc (.int y :: .int x :: rest) := fun H locs ls hM hz hla => lv_iushr C.1 C.2.1 hdg hv (k H locs ls hM hz hla)
theorem rb_dup (C : Cx Ev X own cc nl rt tb) {va : Value} (hdg : decode cc pc = .ok (.dup, 1)) (hva : va.category = 1) (k : Wa Ev X R nl hh nn kc ks Q (pc + 1) lc (va :: va :: rest)) : Wa Ev X R nl hh nn kc ks Q pc lc (va :: rest) := fun H locs ls hM hz hla => lv_dup C.1 C.2.1 hdg hva (k H locs ls hM hz hla)
theorem rb_pop (C : Cx Ev X own cc nl rt tb) {va : Value} (hdg : decode cc pc = .ok (.pop, 1)) (hva : va.category = 1) (k : Wa Ev X R nl hh nn kc ks Q (pc + 1) lc (rest)) : Wa Ev X R nl hh nn kc ks Q pc lc (va :: rest) := fun H locs ls hM hz hla => lv_pop C.1 C.2.1 hdg hva (k H locs ls hM hz hla)
theorem rb_dup_x1 (C : Cx Ev X own cc nl rt tb) {va vb : Value} (hdg : decode cc pc = .ok (.dup_x1, 1)) (hva : va.category = 1) (hvb : vb.category = 1) (k : Wa Ev X R nl hh nn kc ks Q (pc + 1) lc (va :: vb :: va :: rest)) : Wa Ev X R nl hh nn kc ks Q pc lc (va :: vb :: rest) := fun H locs ls hM hz hla => lv_dup_x1 C.1 C.2.1 hdg hva hvb (k H locs ls hM hz hla)
theorem rb_dup_x2 (C : Cx Ev X own cc nl rt tb) {va vb vd : Value} (hdg : decode cc pc = .ok (.dup_x2, 1)) (hva : va.category = 1) (hvb : vb.category = 1) (hvd : vd.category = 1) (k : Wa Ev X R nl hh nn kc ks Q (pc + 1) lc (va :: vb :: vd :: va :: rest)) : Wa Ev X R nl hh nn kc ks Q pc lc (va :: vb :: vd :: rest) := fun H locs ls hM hz hla => lv_dup_x2 C.1 C.2.1 hdg hva hvb hvd (k H locs ls hM hz hla)
theorem rb_dup2_11 (C : Cx Ev X own cc nl rt tb) {va vb : Value} (hdg : decode cc pc = .ok (.dup2, 1)) (hva : va.category = 1) (hvb : vb.category = 1) (k : Wa Ev X R nl hh nn kc ks Q (pc + 1) lc (va :: vb :: va :: vb :: rest)) : Wa Ev X R nl hh nn kc ks Q pc lc (va :: vb :: rest) := fun H locs ls hM hz hla => lv_dup2_11 C.1 C.2.1 hdg hva hvb (k H locs ls hM hz hla)
theorem rb_dup2_2 (C : Cx Ev X own cc nl rt tb) {va : Value} (hdg : decode cc pc = .ok (.dup2, 1)) (hva : va.category = 2) (k : Wa Ev X R nl hh nn kc ks Q (pc + 1) lc (va :: va :: rest)) : Wa Ev X R nl hh nn kc ks Q pc lc (va :: rest) := fun H locs ls hM hz hla => lv_dup2_2 C.1 C.2.1 hdg hva (k H locs ls hM hz hla)
theorem rb_pop2_11 (C : Cx Ev X own cc nl rt tb) {va vb : Value} (hdg : decode cc pc = .ok (.pop2, 1)) (hva : va.category = 1) (hvb : vb.category = 1) (k : Wa Ev X R nl hh nn kc ks Q (pc + 1) lc (rest)) : Wa Ev X R nl hh nn kc ks Q pc lc (va :: vb :: rest) := fun H locs ls hM hz hla => lv_pop2_11 C.1 C.2.1 hdg hva hvb (k H locs ls hM hz hla)
theorem rb_pop2_2 (C : Cx Ev X own cc nl rt tb) {va : Value} (hdg : decode cc pc = .ok (.pop2, 1)) (hva : va.category = 2) (k : Wa Ev X R nl hh nn kc ks Q (pc + 1) lc (rest)) : Wa Ev X R nl hh nn kc ks Q pc lc (va :: rest) := fun H locs ls hM hz hla => lv_pop2_2 C.1 C.2.1 hdg hva (k H locs ls hM hz hla)
theorem rb_if_eq (C : Cx Ev X own cc nl rt tb) {x : Int32} {off : Int} {tgt : Nat} (hdg : decode cc pc = .ok (.ifCond .eq off, 3)) (ht : (pc : Int) + off = (tgt : Int)) (kt : x = 0 → Wa Ev X R nl hh nn kc ks Q tgt lc rest) (kf : ¬ x = 0 → Wa Ev X R nl hh nn kc ks Q (pc + 3) lc rest) : Wa Ev X R nl hh nn kc ks Q pc lc (.int x :: rest) := fun H locs ls hM hz hla => lv_if_eq C.1 C.2.1 hdg ht (fun hc => kt hc H locs ls hM hz hla) (fun hc => kf hc H locs ls hM hz hla)
theorem rb_if_ne (C : Cx Ev X own cc nl rt tb) {x : Int32} {off : Int} {tgt : Nat} (hdg : decode cc pc = .ok (.ifCond .ne off, 3)) (ht : (pc : Int) + off = (tgt : Int)) (kt : ¬ x = 0 → Wa Ev X R nl hh nn kc ks Q tgt lc rest) (kf : x = 0 → Wa Ev X R nl hh nn kc ks Q (pc + 3) lc rest) : Wa Ev X R nl hh nn kc ks Q pc lc (.int x :: rest) := fun H locs ls hM hz hla => lv_if_ne C.1 C.2.1 hdg ht (fun hc => kt hc H locs ls hM hz hla) (fun hc => kf hc H locs ls hM hz hla)
theorem rb_if_lt (C : Cx Ev X own cc nl rt tb) {x : Int32} {off : Int} {tgt : Nat} (hdg : decode cc pc = .ok (.ifCond .lt off, 3)) (ht : (pc : Int) + off = (tgt : Int)) (kt : x < 0 → Wa Ev X R nl hh nn kc ks Q tgt lc rest) (kf : ¬ x < 0 → Wa Ev X R nl hh nn kc ks Q (pc + 3) lc rest) : Wa Ev X R nl hh nn kc ks Q pc lc (.int x :: rest) := fun H locs ls hM hz hla => lv_if_lt C.1 C.2.1 hdg ht (fun hc => kt hc H locs ls hM hz hla) (fun hc => kf hc H locs ls hM hz hla)
theorem rb_if_ge (C : Cx Ev X own cc nl rt tb) {x : Int32} {off : Int} {tgt : Nat} (hdg : decode cc pc = .ok (.ifCond .ge off, 3)) (ht : (pc : Int) + off = (tgt : Int)) (kt : 0 ≤ x → Wa Ev X R nl hh nn kc ks Q tgt lc rest) (kf : ¬ 0 ≤ x → Wa Ev X R nl hh nn kc ks Q (pc + 3) lc rest) : Wa Ev X R nl hh nn kc ks Q pc lc (.int x :: rest) := fun H locs ls hM hz hla => lv_if_ge C.1 C.2.1 hdg ht (fun hc => kt hc H locs ls hM hz hla) (fun hc => kf hc H locs ls hM hz hla)
theorem rb_if_gt (C : Cx Ev X own cc nl rt tb) {x : Int32} {off : Int} {tgt : Nat} (hdg : decode cc pc = .ok (.ifCond .gt off, 3)) (ht : (pc : Int) + off = (tgt : Int)) (kt : 0 < x → Wa Ev X R nl hh nn kc ks Q tgt lc rest) (kf : ¬ 0 < x → Wa Ev X R nl hh nn kc ks Q (pc + 3) lc rest) : Wa Ev X R nl hh nn kc ks Q pc lc (.int x :: rest) := fun H locs ls hM hz hla => lv_if_gt C.1 C.2.1 hdg ht (fun hc => kt hc H locs ls hM hz hla) (fun hc => kf hc H locs ls hM hz hla)
theorem rb_if_le (C : Cx Ev X own cc nl rt tb) {x : Int32} {off : Int} {tgt : Nat} (hdg : decode cc pc = .ok (.ifCond .le off, 3)) (ht : (pc : Int) + off = (tgt : Int)) (kt : x ≤ 0 → Wa Ev X R nl hh nn kc ks Q tgt lc rest) (kf : ¬ x ≤ 0 → Wa Ev X R nl hh nn kc ks Q (pc + 3) lc rest) : Wa Ev X R nl hh nn kc ks Q pc lc (.int x :: rest) := fun H locs ls hM hz hla => lv_if_le C.1 C.2.1 hdg ht (fun hc => kt hc H locs ls hM hz hla) (fun hc => kf hc H locs ls hM hz hla)
theorem rb_icmp_eq (C : Cx Ev X own cc nl rt tb) {x y : Int32} {off : Int} {tgt : Nat} (hdg : decode cc pc = .ok (.if_icmp .eq off, 3)) (ht : (pc : Int) + off = (tgt : Int)) (kt : x = y → Wa Ev X R nl hh nn kc ks Q tgt lc rest) (kf : ¬ x = y → Wa Ev X R nl hh nn kc ks Q (pc + 3) lc rest) : Wa Ev X R nl hh nn kc ks Q pc lc (.int y :: .int x :: rest) := fun H locs ls hM hz hla => lv_icmp_eq C.1 C.2.1 hdg ht (fun hc => kt hc H locs ls hM hz hla) (fun hc => kf hc H locs ls hM hz hla)
theorem rb_icmp_ne (C : Cx Ev X own cc nl rt tb) {x y : Int32} {off : Int} {tgt : Nat} (hdg : decode cc pc = .ok (.if_icmp .ne off, 3)) (ht : (pc : Int) + off = (tgt : Int)) (kt : ¬ x = y → Wa Ev X R nl hh nn kc ks Q tgt lc rest) (kf : x = y → Wa Ev X R nl hh nn kc ks Q (pc + 3) lc rest) : Wa Ev X R nl hh nn kc ks Q pc lc (.int y :: .int x :: rest) := fun H locs ls hM hz hla => lv_icmp_ne C.1 C.2.1 hdg ht (fun hc => kt hc H locs ls hM hz hla) (fun hc => kf hc H locs ls hM hz hla)
theorem rb_icmp_lt (C : Cx Ev X own cc nl rt tb) {x y : Int32} {off : Int} {tgt : Nat} (hdg : decode cc pc = .ok (.if_icmp .lt off, 3)) (ht : (pc : Int) + off = (tgt : Int)) (kt : x < y → Wa Ev X R nl hh nn kc ks Q tgt lc rest) (kf : ¬ x < y → Wa Ev X R nl hh nn kc ks Q (pc + 3) lc rest) : Wa Ev X R nl hh nn kc ks Q pc lc (.int y :: .int x :: rest) := fun H locs ls hM hz hla => lv_icmp_lt C.1 C.2.1 hdg ht (fun hc => kt hc H locs ls hM hz hla) (fun hc => kf hc H locs ls hM hz hla)
theorem rb_icmp_ge (C : Cx Ev X own cc nl rt tb) {x y : Int32} {off : Int} {tgt : Nat} (hdg : decode cc pc = .ok (.if_icmp .ge off, 3)) (ht : (pc : Int) + off = (tgt : Int)) (kt : y ≤ x → Wa Ev X R nl hh nn kc ks Q tgt lc rest) (kf : ¬ y ≤ x → Wa Ev X R nl hh nn kc ks Q (pc + 3) lc rest) : Wa Ev X R nl hh nn kc ks Q pc lc (.int y :: .int x :: rest) := fun H locs ls hM hz hla => lv_icmp_ge C.1 C.2.1 hdg ht (fun hc => kt hc H locs ls hM hz hla) (fun hc => kf hc H locs ls hM hz hla)
theorem rb_icmp_gt (C : Cx Ev X own cc nl rt tb) {x y : Int32} {off : Int} {tgt : Nat} (hdg : decode cc pc = .ok (.if_icmp .gt off, 3)) (ht : (pc : Int) + off = (tgt : Int)) (kt : y < x → Wa Ev X R nl hh nn kc ks Q tgt lc rest) (kf : ¬ y < x → Wa Ev X R nl hh nn kc ks Q (pc + 3) lc rest) : Wa Ev X R nl hh nn kc ks Q pc lc (.int y :: .int x :: rest) := fun H locs ls hM hz hla => lv_icmp_gt C.1 C.2.1 hdg ht (fun hc => kt hc H locs ls hM hz hla) (fun hc => kf hc H locs ls hM hz hla)
theorem rb_icmp_le (C : Cx Ev X own cc nl rt tb) {x y : Int32} {off : Int} {tgt : Nat} (hdg : decode cc pc = .ok (.if_icmp .le off, 3)) (ht : (pc : Int) + off = (tgt : Int)) (kt : x ≤ y → Wa Ev X R nl hh nn kc ks Q tgt lc rest) (kf : ¬ x ≤ y → Wa Ev X R nl hh nn kc ks Q (pc + 3) lc rest) : Wa Ev X R nl hh nn kc ks Q pc lc (.int y :: .int x :: rest) := fun H locs ls hM hz hla => lv_icmp_le C.1 C.2.1 hdg ht (fun hc => kt hc H locs ls hM hz hla) (fun hc => kf hc H locs ls hM hz hla)
theorem rb_goto (C : Cx Ev X own cc nl rt tb) {off : Int} {tgt : Nat} (hdg : decode cc pc = .ok (.goto off, 3)) (ht : (pc : Int) + off = (tgt : Int)) (k : Wa Ev X R nl hh nn kc ks Q tgt lc rest) : Wa Ev X R nl hh nn kc ks Q pc lc rest := fun H locs ls hM hz hla => lv_goto C.1 C.2.1 hdg ht (k H locs ls hM hz hla)
theorem rb_fconst0 (C : Cx Ev X own cc nl rt tb) (hdg : decode cc pc = .ok (.fconst 0, 1)) (k : Wa Ev X R nl hh nn kc ks Q (pc + 1) lc (.float FP.fconst0 :: rest)) : Wa Ev X R nl hh nn kc ks Q pc lc (rest) := fun H locs ls hM hz hla => lv_fconst0 C.1 C.2.1 hdg (k H locs ls hM hz hla)
theorem rb_dconst0 (C : Cx Ev X own cc nl rt tb) (hdg : decode cc pc = .ok (.dconst 0, 1)) (k : Wa Ev X R nl hh nn kc ks Q (pc + 1) lc (.double FP.dconst0 :: rest)) : Wa Ev X R nl hh nn kc ks Q pc lc (rest) := fun H locs ls hM hz hla => lv_dconst0 C.1 C.2.1 hdg (k H locs ls hM hz hla)
theorem rb_fload_n (C : Cx Ev X own cc nl rt tb) {k : Fin 4} {i : Nat} {x : UInt32} (hdg : decode cc pc = .ok (.fload_n k, 1)) (hi : (k : Nat) = i) (t : Nat) (htt : lc[t]? = some (i, (.float x))) (k : Wa Ev X R nl hh nn kc ks Q (pc + 1) lc (.float x :: rest)) : Wa Ev X R nl hh nn kc ks Q pc lc (rest) := fun H locs ls hM hz hla => lv_fload_n C.1 C.2.1 hdg hi (lv_at hla t htt) (k H locs ls hM hz hla)
theorem rb_fload (C : Cx Ev X own cc nl rt tb) {i : Nat} {x : UInt32} (hdg : decode cc pc = .ok (.fload i, 2)) (t : Nat) (htt : lc[t]? = some (i, (.float x))) (k : Wa Ev X R nl hh nn kc ks Q (pc + 2) lc (.float x :: rest)) : Wa Ev X R nl hh nn kc ks Q pc lc (rest) := fun H locs ls hM hz hla => lv_fload C.1 C.2.1 hdg (lv_at hla t htt) (k H locs ls hM hz hla)
theorem rb_fdiv (C : Cx Ev X own cc nl rt tb) {x y : UInt32} (hdg : decode cc pc = .ok (.fdiv, 1)) (hne : vf_n32 (FP.fdiv x y)) (k : Wa Ev X R nl hh nn kc ks Q (pc + 1) lc (.float (FP.fdiv x y) :: rest)) : Wa Ev X R nl hh nn kc ks Q pc lc (.float y :: .float x :: rest) := fun H locs ls hM hz hla => lv_fdiv C.1 C.2.1 hdg hne (k H locs ls hM hz hla)
theorem rb_fcmp (C : Cx Ev X own cc nl rt tb) {x y : UInt32} {op : CmpOp} (hdg : decode cc pc = .ok (.fcmp op, 1)) (k : Wa Ev X R nl hh nn kc ks Q (pc + 1) lc (.int (Op.cmpValue (FP.fcmp x y) op) :: rest)) : Wa Ev X R nl hh nn kc ks Q pc lc (.float y :: .float x :: rest) := fun H locs ls hM hz hla => lv_fcmp C.1 C.2.1 hdg (k H locs ls hM hz hla)
theorem rb_i2f (C : Cx Ev X own cc nl rt tb) {x : Int32} (hdg : decode cc pc = .ok (.i2f, 1)) (k : Wa Ev X R nl hh nn kc ks Q (pc + 1) lc (.float (FP.i2f x) :: rest)) : Wa Ev X R nl hh nn kc ks Q pc lc (.int x :: rest) := fun H locs ls hM hz hla => lv_i2f C.1 C.2.1 hdg (k H locs ls hM hz hla)
theorem rb_dload_n (C : Cx Ev X own cc nl rt tb) {k : Fin 4} {i : Nat} {x : UInt64} (hdg : decode cc pc = .ok (.dload_n k, 1)) (hi : (k : Nat) = i) (t : Nat) (htt : lc[t]? = some (i, (.double x))) (k : Wa Ev X R nl hh nn kc ks Q (pc + 1) lc (.double x :: rest)) : Wa Ev X R nl hh nn kc ks Q pc lc (rest) := fun H locs ls hM hz hla => lv_dload_n C.1 C.2.1 hdg hi (lv_at hla t htt) (k H locs ls hM hz hla)
theorem rb_dload (C : Cx Ev X own cc nl rt tb) {i : Nat} {x : UInt64} (hdg : decode cc pc = .ok (.dload i, 2)) (t : Nat) (htt : lc[t]? = some (i, (.double x))) (k : Wa Ev X R nl hh nn kc ks Q (pc + 2) lc (.double x :: rest)) : Wa Ev X R nl hh nn kc ks Q pc lc (rest) := fun H locs ls hM hz hla => lv_dload C.1 C.2.1 hdg (lv_at hla t htt) (k H locs ls hM hz hla)
theorem rb_ddiv (C : Cx Ev X own cc nl rt tb) {x y : UInt64} (hdg : decode cc pc = .ok (.ddiv, 1)) (hne : vf_n64 (FP.ddiv x y)) (k : Wa Ev X R nl hh nn kc ks Q (pc + 1) lc (.double (FP.ddiv x y) :: rest)) : Wa Ev X R nl hh nn kc ks Q pc lc (.double y :: .double x :: rest) := fun H locs ls hM hz hla => lv_ddiv C.1 C.2.1 hdg hne (k H locs ls hM hz hla)
theorem rb_dcmp (C : Cx Ev X own cc nl rt tb) {x y : UInt64} {op : CmpOp} (hdg : decode cc pc = .ok (.dcmp op, 1)) (k : Wa Ev X R nl hh nn kc ks Q (pc + 1) lc (.int (Op.cmpValue (FP.dcmp x y) op) :: rest)) : Wa Ev X R nl hh nn kc ks Q pc lc (.double y :: .double x :: rest) := fun H locs ls hM hz hla => lv_dcmp C.1 C.2.1 hdg (k H locs ls hM hz hla)
theorem rb_i2d (C : Cx Ev X own cc nl rt tb) {x : Int32} (hdg : decode cc pc = .ok (.i2d, 1)) (k : Wa Ev X R nl hh nn kc ks Q (pc + 1) lc (.double (FP.i2d x) :: rest)) : Wa Ev X R nl hh nn kc ks Q pc lc (.int x :: rest) := fun H locs ls hM hz hla => lv_i2d C.1 C.2.1 hdg (k H locs ls hM hz hla)
theorem rb_f2d (C : Cx Ev X own cc nl rt tb) {x : UInt32} (hdg : decode cc pc = .ok (.f2d, 1)) (hne : vf_n64 (FP.f2d x)) (k : Wa Ev X R nl hh nn kc ks Q (pc + 1) lc (.double (FP.f2d x) :: rest)) : Wa Ev X R nl hh nn kc ks Q pc lc (.float x :: rest) := fun H locs ls hM hz hla => lv_f2d C.1 C.2.1 hdg hne (k H locs ls hM hz hla)
theorem rb_fstore_n (C : Cx Ev X own cc nl rt tb) {k : Fin 4} {i : Nat} {x : UInt32} {lv' : List (Nat × Value)} (hdg : decode cc pc = .ok (.fstore_n k, 1)) (hi : (k : Nat) = i) (hn : i < nl) (hl : (i, Value.float x) :: lc.filter (fun q => !(q.1 == i) && !(q.1 + 1 == i && q.2.category == 2)) = lv') (kk : Wa Ev X R nl hh nn kc ks Q (pc + 1) lv' rest) : Wa Ev X R nl hh nn kc ks Q pc lc (.float x :: rest) := fun H locs ls hM hz hla => lv_fstore_n C.1 C.2.1 hdg hi hla hn hl (fun ls' hl' => kk H locs ls' hM hz hl')
theorem rb_fstore (C : Cx Ev X own cc nl rt tb) {i : Nat} {x : UInt32} {lv' : List (Nat × Value)} (hdg : decode cc pc = .ok (.fstore i, 2)) (hn : i < nl) (hl : (i, Value.float x) :: lc.filter (fun q => !(q.1 == i) && !(q.1 + 1 == i && q.2.category == 2)) = lv') (kk : Wa Ev X R nl hh nn kc ks Q (pc + 2) lv' rest) : Wa Ev X R nl hh nn kc ks Q pc lc (.float x :: rest) := fun H locs ls hM hz hla => lv_fstore C.1 C.2.1 hdg hla hn hl (fun ls' hl' => kk H locs ls' hM hz hl')
theorem rb_dstore_n (C : Cx Ev X own cc nl rt tb) {k : Fin 4} {i : Nat} {x : UInt64} {lv' : List (Nat × Value)} (hdg : decode cc pc = .ok (.dstore_n k, 1)) (hi : (k : Nat) = i) (hn : i + 1 < nl) (hl : (i, Value.double x) :: lc.filter (fun q => !(q.1 == i) && (!(q.1 == i + 1) && !(q.1 + 1 == i && q.2.category == 2))) = lv') (kk : Wa Ev X R nl hh nn kc ks Q (pc + 1) lv' rest) : Wa Ev X R nl hh nn kc ks Q pc lc (.double x :: rest) := fun H locs ls hM hz hla => lv_dstore_n C.1 C.2.1 hdg hi hla hn hl (fun ls' hl' => kk H locs ls' hM hz hl')
theorem rb_dstore (C : Cx Ev X own cc nl rt tb) {i : Nat} {x : UInt64} {lv' : List (Nat × Value)} (hdg : decode cc pc = .ok (.dstore i, 2)) (hn : i + 1 < nl) (hl : (i, Value.double x) :: lc.filter (fun q => !(q.1 == i) && (!(q.1 == i + 1) && !(q.1 + 1 == i && q.2.category == 2))) = lv') (kk : Wa Ev X R nl hh nn kc ks Q (pc + 2) lv' rest) : Wa Ev X R nl hh nn kc ks Q pc lc (.double x :: rest) := fun H locs ls hM hz hla => lv_dstore C.1 C.2.1 hdg hla hn hl (fun ls' hl' => kk H locs ls' hM hz hl')
theorem rb_ldcf (C : Cx Ev X own cc nl rt tb) {index : Nat} {v : UInt32} (hconst : Jvm.Cond.constantFloat own index v ∈ lw_all) (hdg : decode cc pc = .ok (.ldc index, 2)) (k : Wa Ev X R nl hh nn kc ks Q (pc + 2) lc (.float v :: rest)) : Wa Ev X R nl hh nn kc ks Q pc lc rest := fun H locs ls hM hz hla => lv_ldcf C.1 C.2.1 C.2.2.2.1 (C.2.2.2.2.1 _ hconst) hdg (k H locs ls hM hz hla)
theorem rb_ldc2d (C : Cx Ev X own cc nl rt tb) {index : Nat} {v : UInt64} (hconst : Jvm.Cond.constantDouble own index v ∈ lw_all) (hdg : decode cc pc = .ok (.ldc2_w index, 3)) (k : Wa Ev X R nl hh nn kc ks Q (pc + 3) lc (.double v :: rest)) : Wa Ev X R nl hh nn kc ks Q pc lc rest := fun H locs ls hM hz hla => lv_ldc2d C.1 C.2.1 C.2.2.2.1 (C.2.2.2.2.1 _ hconst) hdg (k H locs ls hM hz hla)
theorem rb_ldc (C : Cx Ev X own cc nl rt tb) {index : Nat} {v : Int32} (hconst : Jvm.Cond.constant own index v ∈ lw_all) (hdg : decode cc pc = .ok (.ldc index, 2)) (k : Wa Ev X R nl hh nn kc ks Q (pc + 2) lc (.int v :: rest)) : Wa Ev X R nl hh nn kc ks Q pc lc rest := fun H locs ls hM hz hla => lv_ldc C.1 C.2.1 C.2.2.2.1 (C.2.2.2.2.1 _ hconst) hdg (k H locs ls hM hz hla)
theorem rb_ldc2 (C : Cx Ev X own cc nl rt tb) {index : Nat} {v : Int64} (hconst : Jvm.Cond.constantLong own index v ∈ lw_all) (hdg : decode cc pc = .ok (.ldc2_w index, 3)) (k : Wa Ev X R nl hh nn kc ks Q (pc + 3) lc (.long v :: rest)) : Wa Ev X R nl hh nn kc ks Q pc lc rest := fun H locs ls hM hz hla => lv_ldc2 C.1 C.2.1 C.2.2.2.1 (C.2.2.2.2.1 _ hconst) hdg (k H locs ls hM hz hla)
theorem rb_lookup (C : Cx Ev X own cc nl rt tb) {dflt : Int} {ps : Array (Int × Int)} {len : Nat} {x : Int32} {off : Int} {tgt : Nat} (hdg : decode cc pc = .ok (.lookupswitch dflt ps, len)) (hp : (ps.toList.zip (ps.toList.drop 1)).all (fun (a, next) => a.1 < next.1) = true) (ho : Op.lookupswitch.offset ps.toList dflt x.toInt = off) (ht : (pc : Int) + off = (tgt : Int)) (k : Wa Ev X R nl hh nn kc ks Q tgt lc rest) : Wa Ev X R nl hh nn kc ks Q pc lc (.int x :: rest) := fun H locs ls hM hz hla => lv_lookup C.1 C.2.1 hdg hp ho ht (k H locs ls hM hz hla)
theorem rb_tableOut (C : Cx Ev X own cc nl rt tb) {dflt lo hi : Int} {offs : Array Int} {len : Nat} {x : Int32} {tgt : Nat} (hdg : decode cc pc = .ok (.tableswitch dflt lo hi offs, len)) (h : x.toInt < lo ∨ hi < x.toInt) (ht : (pc : Int) + dflt = (tgt : Int)) (k : Wa Ev X R nl hh nn kc ks Q tgt lc rest) : Wa Ev X R nl hh nn kc ks Q pc lc (.int x :: rest) := fun H locs ls hM hz hla => lv_tableOut C.1 C.2.1 hdg h ht (k H locs ls hM hz hla)
theorem rb_tableIn (C : Cx Ev X own cc nl rt tb) {dflt lo hi : Int} {offs : Array Int} {len : Nat} {x : Int32} {off : Int} {tgt : Nat} (hdg : decode cc pc = .ok (.tableswitch dflt lo hi offs, len)) (h1 : ¬ x.toInt < lo) (h2 : ¬ hi < x.toInt) (ho : offs[(x.toInt - lo).toNat]? = some off) (ht : (pc : Int) + off = (tgt : Int)) (k : Wa Ev X R nl hh nn kc ks Q tgt lc rest) : Wa Ev X R nl hh nn kc ks Q pc lc (.int x :: rest) := fun H locs ls hM hz hla => lv_tableIn C.1 C.2.1 hdg h1 h2 ho ht (k H locs ls hM hz hla)
theorem rb_ifnonnull (C : Cx Ev X own cc nl rt tb) {x : Nat} {off : Int} {tgt : Nat} (hdg : decode cc pc = .ok (.ifnonnull off, 3)) (ht : (pc : Int) + off = (tgt : Int)) (k : Wa Ev X R nl hh nn kc ks Q tgt lc rest) : Wa Ev X R nl hh nn kc ks Q pc lc (.ref x :: rest) := fun H locs ls hM hz hla => lv_ifnonnull C.1 C.2.1 hdg ht (k H locs ls hM hz hla)
theorem rb_ifnull (C : Cx Ev X own cc nl rt tb) {x : Nat} {off : Int} (hdg : decode cc pc = .ok (.ifnull off, 3)) (k : Wa Ev X R nl hh nn kc ks Q (pc + 3) lc rest) : Wa Ev X R nl hh nn kc ks Q pc lc (.ref x :: rest) := fun H locs ls hM hz hla => lv_ifnull C.1 C.2.1 hdg (k H locs ls hM hz hla)
theorem rb_null (C : Cx Ev X own cc nl rt tb) (hdg : decode cc pc = .ok (.aconst_null, 1)) (k : Wa Ev X R nl hh nn kc ks Q (pc + 1) lc (.null :: rest)) : Wa Ev X R nl hh nn kc ks Q pc lc rest := fun H locs ls hM hz hla => lv_null C.1 C.2.1 hdg (k H locs ls hM hz hla)
theorem rb_ifnullN (C : Cx Ev X own cc nl rt tb) {off : Int} {tgt : Nat} (hdg : decode cc pc = .ok (.ifnull off, 3)) (ht : (pc : Int) + off = (tgt : Int)) (k : Wa Ev X R nl hh nn kc ks Q tgt lc rest) : Wa Ev X R nl hh nn kc ks Q pc lc (.null :: rest) := fun H locs ls hM hz hla => lv_ifnullN C.1 C.2.1 hdg ht (k H locs ls hM hz hla)
theorem rb_ifnonnullN (C : Cx Ev X own cc nl rt tb) {off : Int} (hdg : decode cc pc = .ok (.ifnonnull off, 3)) (k : Wa Ev X R nl hh nn kc ks Q (pc + 3) lc rest) : Wa Ev X R nl hh nn kc ks Q pc lc (.null :: rest) := fun H locs ls hM hz hla => lv_ifnonnullN C.1 C.2.1 hdg (k H locs ls hM hz hla)
theorem rb_aload_nN (C : Cx Ev X own cc nl rt tb) {k : Fin 4} {i : Nat} (hdg : decode cc pc = .ok (.aload_n k, 1)) (hi : (k : Nat) = i) (t : Nat) (htt : lc[t]? = some (i, (.null))) (k : Wa Ev X R nl hh nn kc ks Q (pc + 1) lc (.null :: rest)) : Wa Ev X R nl hh nn kc ks Q pc lc (rest) := fun H locs ls hM hz hla => lv_aload_nN C.1 C.2.1 hdg hi (lv_at hla t htt) (k H locs ls hM hz hla)
theorem rb_aloadN (C : Cx Ev X own cc nl rt tb) {i : Nat} (hdg : decode cc pc = .ok (.aload i, 2)) (t : Nat) (htt : lc[t]? = some (i, (.null))) (k : Wa Ev X R nl hh nn kc ks Q (pc + 2) lc (.null :: rest)) : Wa Ev X R nl hh nn kc ks Q pc lc (rest) := fun H locs ls hM hz hla => lv_aloadN C.1 C.2.1 hdg (lv_at hla t htt) (k H locs ls hM hz hla)
theorem rb_astore_nN (C : Cx Ev X own cc nl rt tb) {k : Fin 4} {i : Nat} {lv' : List (Nat × Value)} (hdg : decode cc pc = .ok (.astore_n k, 1)) (hi : (k : Nat) = i) (hn : i < nl) (hl : (i, Value.null) :: lc.filter (fun q => !(q.1 == i) && !(q.1 + 1 == i && q.2.category == 2)) = lv') (kk : Wa Ev X R nl hh nn kc ks Q (pc + 1) lv' rest) : Wa Ev X R nl hh nn kc ks Q pc lc (.null :: rest) := fun H locs ls hM hz hla => lv_astore_nN C.1 C.2.1 hdg hi hla hn hl (fun ls' hl' => kk H locs ls' hM hz hl')
theorem rb_astoreN (C : Cx Ev X own cc nl rt tb) {i : Nat} {lv' : List (Nat × Value)} (hdg : decode cc pc = .ok (.astore i, 2)) (hn : i < nl) (hl : (i, Value.null) :: lc.filter (fun q => !(q.1 == i) && !(q.1 + 1 == i && q.2.category == 2)) = lv') (kk : Wa Ev X R nl hh nn kc ks Q (pc + 2) lv' rest) : Wa Ev X R nl hh nn kc ks Q pc lc (.null :: rest) := fun H locs ls hM hz hla => lv_astoreN C.1 C.2.1 hdg hla hn hl (fun ls' hl' => kk H locs ls' hM hz hl')
theorem rb_acmp_eq (C : Cx Ev X own cc nl rt tb) {rx ry : Option Nat} {off : Int} {tgt : Nat} (hdg : decode cc pc = .ok (.if_acmp .eq off, 3)) (ht : (pc : Int) + off = (tgt : Int)) (kt : rx = ry → Wa Ev X R nl hh nn kc ks Q tgt lc rest) (kf : ¬ rx = ry → Wa Ev X R nl hh nn kc ks Q (pc + 3) lc rest) : Wa Ev X R nl hh nn kc ks Q pc lc (va_rf ry :: va_rf rx :: rest) := fun H locs ls hM hz hla => lv_acmp_eq C.1 C.2.1 hdg ht (fun hc => kt hc H locs ls hM hz hla) (fun hc => kf hc H locs ls hM hz hla)
theorem rb_acmp_ne (C : Cx Ev X own cc nl rt tb) {rx ry : Option Nat} {off : Int} {tgt : Nat} (hdg : decode cc pc = .ok (.if_acmp .ne off, 3)) (ht : (pc : Int) + off = (tgt : Int)) (kt : ¬ rx = ry → Wa Ev X R nl hh nn kc ks Q tgt lc rest) (kf : rx = ry → Wa Ev X R nl hh nn kc ks Q (pc + 3) lc rest) : Wa Ev X R nl hh nn kc ks Q pc lc (va_rf ry :: va_rf rx :: rest) := fun H locs ls hM hz hla => lv_acmp_ne C.1 C.2.1 hdg ht (fun hc => kt hc H locs ls hM hz hla) (fun hc => kf hc H locs ls hM hz hla)
theorem rb_lcmp (C : Cx Ev X own cc nl rt tb) {x y : Int64} (hdg : decode cc pc = .ok (.lcmp, 1)) (k : Wa Ev X R nl hh nn kc ks Q (pc + 1) lc (.int (lg_cmp x y) :: rest)) : Wa Ev X R nl hh nn kc ks Q pc lc (.long y :: .long x :: rest) := fun H locs ls hM hz hla => W.lcmp C.1 C.2.1 hdg (k H locs ls hM hz hla)
/-- an int gets a name -/
theorem rb_topi {x : Int32} (y : Int32) (e : y = x) (k : Wa Ev X R nl hh nn kc ks Q pc lc (.int y :: rest)) : Wa Ev X R nl hh nn kc ks Q pc lc (.int x :: rest) := e ▸ k
theorem rb_topl {x : Int64} (y : Int64) (e : y = x) (k : Wa Ev X R nl hh nn kc ks Q pc lc (.long y :: rest)) : Wa Ev X R nl hh nn kc ks Q pc lc (.long x :: rest) := e ▸ k
theorem rb_top {x : Value} (y : Value) (e : y = x) (k : Wa Ev X R nl hh nn kc ks Q pc lc (y :: rest)) : Wa Ev X R nl hh nn kc ks Q pc lc (x :: rest) := e ▸ k
theorem rb_P1 {D : va_G} {cl : List vw_C} {a : Nat} {e : va_E} {H : Heap} (h : va_at D cl (a, e) H) : va_P D cl [(a, e)] H := by
  intro k q hk
  cases k with
  | zero => cases hk; exact h
  | succ k => simp at hk
/-! FIELDS -/
def FL (own : String) (index ci k : Nat) : Prop := ∃ (C : String) (T : u_T) (N : Nat) (ty : Nat → FieldType), CK ci C T N ty ∧ k < N ∧ (Cond.fieldLink own index (T k).1 (T k).2.1 (T k).2.2.1 ∈ lw_all ∨ ∃ host, Cond.fieldLinkNest own index (T k).1 (T k).2.1 (T k).2.2.1 host ∈ lw_tbl)
def FW (own : String) (index ci k : Nat) (ty : FieldType) : Prop := ∃ (C : String) (T : u_T) (N : Nat) (ty0 : Nat → FieldType), CK ci C T N ty0 ∧ k < N ∧ (Cond.fieldLink own index (T k).1 (T k).2.1 (T k).2.2.1 ∈ lw_all ∨ ∃ host, Cond.fieldLinkNest own index (T k).1 (T k).2.1 (T k).2.2.1 host ∈ lw_tbl) ∧ ty0 k = ty ∧ (T k).2.2.2 = false
def FF (own : String) (index ci k : Nat) (ty : FieldType) : Prop := ∃ (C : String) (T : u_T) (N : Nat) (ty0 : Nat → FieldType), CK ci C T N ty0 ∧ k < N ∧ Cond.fieldLink own index (T k).1 (T k).2.1 (T k).2.2.1 ∈ lw_all ∧ ty0 k = ty ∧ (T k).2.2.2 = true ∧ (T k).1 = own
theorem FW.FL {own : String} {index ci k : Nat} {ty : FieldType} (h : FW own index ci k ty) : FL own index ci k := by
  obtain ⟨C, T, N, ty0, h1, h2, h3, -⟩ := h
  exact ⟨C, T, N, ty0, h1, h2, h3⟩
theorem rb_get (C : Cx Ev X own cc nl rt tb) {q ci k index : Nat} {fs : List Value} {v : Value} (f : FL own index ci k) (hq : At Ev hh q (.inr (ci, fs))) (hv : fs[k]? = some v) (hdg : decode cc pc = .ok (.getfield index, 3)) (kk : Wa Ev X R nl hh nn kc ks Q (pc + 3) lc (v :: rest)) : Wa Ev X R nl hh nn kc ks Q pc lc (.ref q :: rest) := by
  obtain ⟨C9, T, N, ty, ⟨hc, hin, hty, hnm⟩, hk, hl | ⟨host, hl⟩⟩ := f
  · exact fun H locs ls hM hz hla => va_get C.1 C.2.1 C.2.2.2.2.1 hin C.2.2.2.1 C.2.2.2.2.2.1.1 (rb_P1 (hq.of hM)) 0 rfl hc k hk (C.2.2.2.2.1 _ hl) (fun _ h => h) hv hdg (kk H locs ls hM hz hla)
  · exact fun H locs ls hM hz hla => va_getN C.1 C.2.1 C.2.2.2.2.1 hin C.2.2.2.1 C.2.2.2.2.2.1.1 (rb_P1 (hq.of hM)) 0 rfl hc k hk (va_Nw.use rfl (C.2.2.2.2.2.1.2.2.2.1 _ hl rfl)) (fun _ h => h) hv hdg (kk H locs ls hM hz hla)
theorem rb_locs {Ev : rb_E} {locs : List Loc} (hz : ∀ z ∈ locs, (eH Ev).size ≤ z.base) {a i : Nat} (ha : (eH Ev).size ≤ a) : ∀ z ∈ locs ++ [⟨a, i⟩], (eH Ev).size ≤ z.base := by
  intro z h
  rcases List.mem_append.mp h with h | h
  · exact hz z h
  · rw [List.mem_singleton] at h
    subst h
    exact ha
theorem rb_put (C : Cx Ev X own cc nl rt tb) {q ci k index : Nat} {fs : List Value} {v : Value} {ty : FieldType} (f : FW own index ci k ty) (hq : hh q = some (.inr (ci, fs))) (hn : narrow ty v = v) (hfit : fits ty v = true) (hl : k < fs.length) (hdg : decode cc pc = .ok (.putfield index, 3))
    (kk : ∀ h' : AH, h' q = some (.inr (ci, fs.set k v)) → (∀ a, a ≠ q → h' a = hh a) → Wa Ev X R nl h' nn kc ks Q (pc + 3) lc rest) : Wa Ev X R nl hh nn kc ks Q pc lc (v :: .ref q :: rest) := by
  obtain ⟨C9, T, N, ty0, ⟨hc, hin, hty, hnm⟩, hk, hlk, rfl, hfin⟩ := f
  intro H locs ls hM hz hla
  have hK := C.2.2.2.2.2.1.1
  have hts := C.2.2.2.2.1
  have hap := va_apart (own := own) hts hin ty0 hty hnm hK hc
  obtain ⟨r, h1, cell, q1, q2, q3, q4⟩ := (hM.2.2.2 q _ hq).2
  have hr : r = (C9, T, N) := Option.some.inj (h1.symm.trans hc)
  subst hr
  obtain ⟨hS, hfc, kC, hkC, hkind⟩ := hK.1 ci _ hc
  obtain ⟨cf, kf, fi, f, hi, hsl⟩ := hS k hk
  have hlay := hts _ (hin _ (u_in_lay hk))
  unfold u_lay at hlay
  rw [if_neg (by rw [hfin]; decide)] at hlay
  have hst := (u_facts hfc hkC (u_lays hts hin hk) hi).1
  have h6 := u_store hfc hkC hkind hlay hi (hty k hk) hn hfit
  have fin : ∀ H' : Heap, H'[q]? = some (cell.setSlot f.slot v) → H'.size = H.size → (∀ a, a ≠ q → H'[a]? = H[a]?) → Mt Ev (va_up hh q (some (.inr (ci, fs.set k v)))) nn H' := by
    intro H' e1 e2 e3
    rw [hsl] at e1
    exact hM.setO hq ⟨_, hc, t_OB.to (V := updV (vp_V fs) k v) ⟨_, e1, q2, q3, t_set q4 hap hk v⟩ (fun j _ => vp_updV_set hl v j)⟩ (fun c hc => by cases hc.symm.trans e1; exact hM.2.1.2 q _ cell hq q1) e2 e3
  rcases hlk with hlk | ⟨host, hlk⟩
  · refine W.putK C.1 C.2.1 (f := f) ⟨C.2.2.2.1, hts _ hlk, ⟨_, _, _, hi⟩, hst⟩ (by rw [q2]; exact h6) q1 q3 (by rw [hsl]; exact k2_hasslot (q4 k hk)) rfl rfl hdg fun H' e1 e2 e3 => ?_
    exact kk _ (va_up_self _ _ _) (fun a ha => va_up_ne _ _ ha) H' _ ls (fin H' e1 e2 e3) (rb_locs hz (hM.2.2.2 q _ hq).1) hla
  · refine va_WputK C.1 C.2.1 (f := f) C.2.2.2.1 (va_Nw.use rfl (C.2.2.2.2.2.1.2.2.2.1 _ hlk rfl)) hi hst (by rw [q2]; exact h6) q1 q3 (by rw [hsl]; exact k2_hasslot (q4 k hk)) rfl rfl hdg fun H' e1 e2 e3 => ?_
    exact kk _ (va_up_self _ _ _) (fun a ha => va_up_ne _ _ ha) H' _ ls (fin H' e1 e2 e3) (rb_locs hz (hM.2.2.2 q _ hq).1) hla
theorem rb_putF (C : Cx Ev X own cc nl rt tb) {q ci k index : Nat} {fs : List Value} {v : Value} {ty : FieldType} (f : FF own index ci k ty) (hi2 : X.2.2.2.2.2.2.2.1.name = "<init>") (hq : hh q = some (.inr (ci, fs))) (hn : narrow ty v = v) (hfit : fits ty v = true) (hl : k < fs.length) (hdg : decode cc pc = .ok (.putfield index, 3))
    (kk : ∀ h' : AH, h' q = some (.inr (ci, fs.set k v)) → (∀ a, a ≠ q → h' a = hh a) → Wa Ev X R nl h' nn kc ks Q (pc + 3) lc rest) : Wa Ev X R nl hh nn kc ks Q pc lc (v :: .ref q :: rest) := by
  obtain ⟨C9, T, N, ty0, ⟨hc, hin, hty, hnm⟩, hk, hlk, rfl, hfin, hdecl⟩ := f
  intro H locs ls hM hz hla
  have hK := C.2.2.2.2.2.1.1
  have hts := C.2.2.2.2.1
  have hap := va_apart (own := own) hts hin ty0 hty hnm hK hc
  obtain ⟨r, h1, cell, q1, q2, q3, q4⟩ := (hM.2.2.2 q _ hq).2
  have hr : r = (C9, T, N) := Option.some.inj (h1.symm.trans hc)
  subst hr
  obtain ⟨hS, hfc, kC, hkC, hkind⟩ := hK.1 ci _ hc
  obtain ⟨cf, kf, fi, f, hi, hsl⟩ := hS k hk
  have hlay := hts _ (hin _ (u_in_lay hk))
  unfold u_lay at hlay
  rw [if_pos hfin] at hlay
  have hst := (u_facts hfc hkC (u_lays hts hin hk) hi).1
  have hcf : X.2.2.2.2.1.cls = cf := by
    obtain ⟨_, _, c', _, _, _, -, -, hf', -, -, -, hown2, -⟩ := Cond.laysFinal_spec hlay
    have e1 : c' = cf := by have := hi.symm.trans hf'; simp at this; exact this.1.symm
    rw [hdecl] at hown2
    rw [← e1]; exact Option.some.inj (C.2.2.2.1.symm.trans hown2)
  have h6 := u_fits hfc hkC hkind (Or.inr hlay) hi (hty k hk) hn hfit
  have fin : ∀ H' : Heap, H'[q]? = some (cell.setSlot f.slot v) → H'.size = H.size → (∀ a, a ≠ q → H'[a]? = H[a]?) → Mt Ev (va_up hh q (some (.inr (ci, fs.set k v)))) nn H' := by
    intro H' e1 e2 e3
    rw [hsl] at e1
    exact hM.setO hq ⟨_, hc, t_OB.to (V := updV (vp_V fs) k v) ⟨_, e1, q2, q3, t_set q4 hap hk v⟩ (fun j _ => vp_updV_set hl v j)⟩ (fun c hc => by cases hc.symm.trans e1; exact hM.2.1.2 q _ cell hq q1) e2 e3
  refine W.putFinK C.1 C.2.1 C.2.2.2.1 (hts _ hlk) hi hst hcf hi2 (by rw [q2]; exact h6) q1 q3 (by rw [hsl]; exact k2_hasslot (q4 k hk)) rfl rfl hdg fun H' e1 e2 e3 => ?_
  exact kk _ (va_up_self _ _ _) (fun a ha => va_up_ne _ _ ha) H' _ ls (fin H' e1 e2 e3) (rb_locs hz (hM.2.2.2 q _ hq).1) hla
/-! ARRAYS -/
theorem rb_alen (C : Cx Ev X own cc nl rt tb) {q : Nat} (t0 : Nat) {cA : ClassId} {ty : FieldType} {x : vp_A} (ht : (rb_TY Ev)[t0]? = some (cA, ty)) (hq : At Ev hh q (.inl (cA, x))) (hdg : decode cc pc = .ok (.arraylength, 1)) (kk : Wa Ev X R nl hh nn kc ks Q (pc + 1) lc (.int (nI x.1) :: rest)) : Wa Ev X R nl hh nn kc ks Q pc lc (.ref q :: rest) :=
  fun H locs ls hM hz hla => va_alen C.1 C.2.1 C.2.2.2.2.2.1.1 (rb_P1 (hq.of hM)) 0 t0 rfl ht rfl hdg (kk H locs ls hM hz hla)
theorem rb_iald (C : Cx Ev X own cc nl rt tb) {q n : Nat} {f : Nat → Int32} {i : Int32} (hq : At Ev hh q (.inl (eA Ev 0, n, .inl f))) (hin : vp_in i n) (hdg : decode cc pc = .ok (.iaload, 1)) (kk : Wa Ev X R nl hh nn kc ks Q (pc + 1) lc (.int (f i.toNatClampNeg) :: rest)) : Wa Ev X R nl hh nn kc ks Q pc lc (.int i :: .ref q :: rest) :=
  fun H locs ls hM hz hla => va_iald C.1 C.2.1 C.2.2.2.2.2.1.1 (rb_P1 (hq.of hM)) 0 0 rfl rfl hin hdg (kk H locs ls hM hz hla)
theorem rb_bald (C : Cx Ev X own cc nl rt tb) {q n : Nat} {f : Nat → Int32} {i : Int32} (hq : At Ev hh q (.inl (eA Ev 1, n, .inl f))) (hin : vp_in i n) (hdg : decode cc pc = .ok (.baload, 1)) (kk : Wa Ev X R nl hh nn kc ks Q (pc + 1) lc (.int (f i.toNatClampNeg) :: rest)) : Wa Ev X R nl hh nn kc ks Q pc lc (.int i :: .ref q :: rest) :=
  fun H locs ls hM hz hla => va_bald C.1 C.2.1 C.2.2.2.2.2.1.1 (rb_P1 (hq.of hM)) 0 1 rfl rfl hin hdg (kk H locs ls hM hz hla)
theorem rb_zald (C : Cx Ev X own cc nl rt tb) {q n : Nat} {f : Nat → Int32} {i : Int32} (hq : At Ev hh q (.inl (eA Ev 2, n, .inl f))) (hin : vp_in i n) (hdg : decode cc pc = .ok (.baload, 1)) (kk : Wa Ev X R nl hh nn kc ks Q (pc + 1) lc (.int (f i.toNatClampNeg) :: rest)) : Wa Ev X R nl hh nn kc ks Q pc lc (.int i :: .ref q :: rest) :=
  fun H locs ls hM hz hla => va_zald C.1 C.2.1 C.2.2.2.2.2.1.1 (rb_P1 (hq.of hM)) 0 2 rfl rfl hin hdg (kk H locs ls hM hz hla)
theorem rb_cald (C : Cx Ev X own cc nl rt tb) {q n : Nat} {f : Nat → Int32} {i : Int32} (hq : At Ev hh q (.inl (eA Ev 3, n, .inl f))) (hin : vp_in i n) (hdg : decode cc pc = .ok (.caload, 1)) (kk : Wa Ev X R nl hh nn kc ks Q (pc + 1) lc (.int (f i.toNatClampNeg) :: rest)) : Wa Ev X R nl hh nn kc ks Q pc lc (.int i :: .ref q :: rest) :=
  fun H locs ls hM hz hla => va_cald C.1 C.2.1 C.2.2.2.2.2.1.1 (rb_P1 (hq.of hM)) 0 3 rfl rfl hin hdg (kk H locs ls hM hz hla)
theorem rb_lald (C : Cx Ev X own cc nl rt tb) {q n : Nat} {f : Nat → Int64} {i : Int32} (hq : At Ev hh q (.inl (eA Ev 4, n, .inr (.inl f)))) (hin : vp_in i n) (hdg : decode cc pc = .ok (.laload, 1)) (kk : Wa Ev X R nl hh nn kc ks Q (pc + 1) lc (.long (f i.toNatClampNeg) :: rest)) : Wa Ev X R nl hh nn kc ks Q pc lc (.int i :: .ref q :: rest) :=
  fun H locs ls hM hz hla => va_lald C.1 C.2.1 C.2.2.2.2.2.1.1 (rb_P1 (hq.of hM)) 0 4 rfl rfl hin hdg (kk H locs ls hM hz hla)
theorem rb_dald (C : Cx Ev X own cc nl rt tb) {q n : Nat} {f : Nat → UInt64} {i : Int32} (hq : At Ev hh q (.inl (eA Ev 5, n, .inr (.inr (.inr (.inl f)))))) (hin : vp_in i n) (hdg : decode cc pc = .ok (.daload, 1)) (kk : Wa Ev X R nl hh nn kc ks Q (pc + 1) lc (.double (f i.toNatClampNeg) :: rest)) : Wa Ev X R nl hh nn kc ks Q pc lc (.int i :: .ref q :: rest) :=
  fun H locs ls hM hz hla => va_dald C.1 C.2.1 C.2.2.2.2.2.1.1 (rb_P1 (hq.of hM)) 0 5 rfl rfl hin hdg (kk H locs ls hM hz hla)
theorem rb_aald (C : Cx Ev X own cc nl rt tb) {q n : Nat} (t0 : Nat) {cA : ClassId} {ty : FieldType} {f : Nat → Option Nat} {i : Int32} (ht : (rb_TY Ev)[t0]? = some (cA, ty)) (href : ty.isReference = true) (hq : At Ev hh q (.inl (cA, n, aQ f))) (hin : vp_in i n) (hdg : decode cc pc = .ok (.aaload, 1)) (kk : Wa Ev X R nl hh nn kc ks Q (pc + 1) lc (va_rf (f i.toNatClampNeg) :: rest)) : Wa Ev X R nl hh nn kc ks Q pc lc (.int i :: .ref q :: rest) :=
  fun H locs ls hM hz hla => by
    have hlt : i.toNatClampNeg < n := Nat.not_le.mp fun q => hin (Or.inr q)
    exact W.aald (v := va_rf (f i.toNatClampNeg)) (ty := ty) C.1 C.2.1 (hq.of hM) ((C.2.2.2.2.2.1.1.2 t0 _ ht).1 n (fun j => va_rf (f j))) href (fun q => by cases q) (by show ¬ (i < 0 ∨ (arrV _ _ _).slots.size ≤ _); rw [arrV_size]; exact hin) (by show (arrV _ _ _).slots[_]? = _; rw [arrV_read _ _ hlt]) rfl rfl hdg (kk H locs ls hM hz hla)
theorem rb_iast (C : Cx Ev X own cc nl rt tb) {q n : Nat} {f : Nat → Int32} {i : Int32} {x : Int32} (hq : hh q = some (.inl (eA Ev 0, n, .inl f))) (hin : vp_in i n) (hdg : decode cc pc = .ok (.iastore, 1))
    (kk : ∀ h' : AH, h' q = some (.inl (eA Ev 0, n, .inl (upd f i.toNatClampNeg x))) → (∀ a, a ≠ q → h' a = hh a) → Wa Ev X R nl h' nn kc ks Q (pc + 1) lc rest) : Wa Ev X R nl hh nn kc ks Q pc lc (.int x :: .int i :: .ref q :: rest) := by
  intro H locs ls hM hz hla
  have hB := (hM.2.2.2 q _ hq).1
  refine W.iast C.1 C.2.1 (hM.2.2.2 q _ hq).2 ((C.2.2.2.2.2.1.1.2 0 _ rfl).1 n (fun j => .int (f j))) (fun q => by cases q) (by show ¬ (i < 0 ∨ (arrV _ _ _).slots.size ≤ _); rw [arrV_size]; exact hin) rfl rfl hdg fun H1 e z oq => ?_
  refine kk _ (va_up_self _ _ _) (fun a ha => va_up_ne _ _ ha) H1 _ ls (hM.set hq ?_ z oq) (rb_locs hz hB) hla
  show H1[q]? = some (vp_cell _ _)
  rw [e]
  rw [vp_cell_i, vp_cell_i, arrV_store]
  congr 2
  funext j
  by_cases hj : j = i.toNatClampNeg
  · subst hj
    simp [updV, upd]
    try rfl
  · simp [updV, upd, hj]
theorem rb_bast (C : Cx Ev X own cc nl rt tb) {q n : Nat} {f : Nat → Int32} {i : Int32} {x : Int32} (hq : hh q = some (.inl (eA Ev 1, n, .inl f))) (hin : vp_in i n) (hdg : decode cc pc = .ok (.bastore, 1))
    (kk : ∀ h' : AH, h' q = some (.inl (eA Ev 1, n, .inl (upd f i.toNatClampNeg (vp_nar .byte x)))) → (∀ a, a ≠ q → h' a = hh a) → Wa Ev X R nl h' nn kc ks Q (pc + 1) lc rest) : Wa Ev X R nl hh nn kc ks Q pc lc (.int x :: .int i :: .ref q :: rest) := by
  intro H locs ls hM hz hla
  have hB := (hM.2.2.2 q _ hq).1
  refine W.bast C.1 C.2.1 (hM.2.2.2 q _ hq).2 ((C.2.2.2.2.2.1.1.2 1 _ rfl).1 n (fun j => .int (f j))) (fun q => by cases q) (by show ¬ (i < 0 ∨ (arrV _ _ _).slots.size ≤ _); rw [arrV_size]; exact hin) rfl rfl hdg fun H1 e z oq => ?_
  refine kk _ (va_up_self _ _ _) (fun a ha => va_up_ne _ _ ha) H1 _ ls (hM.set hq ?_ z oq) (rb_locs hz hB) hla
  show H1[q]? = some (vp_cell _ _)
  rw [e]
  rw [vp_cell_i, vp_cell_i, arrV_store]
  congr 2
  funext j
  by_cases hj : j = i.toNatClampNeg
  · subst hj
    simp [updV, upd, vp_nar]
    try rfl
  · simp [updV, upd, vp_nar, hj]
theorem rb_zast (C : Cx Ev X own cc nl rt tb) {q n : Nat} {f : Nat → Int32} {i : Int32} {x : Int32} (hq : hh q = some (.inl (eA Ev 2, n, .inl f))) (hin : vp_in i n) (hdg : decode cc pc = .ok (.bastore, 1))
    (kk : ∀ h' : AH, h' q = some (.inl (eA Ev 2, n, .inl (upd f i.toNatClampNeg (vp_nar .boolean x)))) → (∀ a, a ≠ q → h' a = hh a) → Wa Ev X R nl h' nn kc ks Q (pc + 1) lc rest) : Wa Ev X R nl hh nn kc ks Q pc lc (.int x :: .int i :: .ref q :: rest) := by
  intro H locs ls hM hz hla
  have hB := (hM.2.2.2 q _ hq).1
  refine W.zast C.1 C.2.1 (hM.2.2.2 q _ hq).2 ((C.2.2.2.2.2.1.1.2 2 _ rfl).1 n (fun j => .int (f j))) (fun q => by cases q) (by show ¬ (i < 0 ∨ (arrV _ _ _).slots.size ≤ _); rw [arrV_size]; exact hin) rfl rfl hdg fun H1 e z oq => ?_
  refine kk _ (va_up_self _ _ _) (fun a ha => va_up_ne _ _ ha) H1 _ ls (hM.set hq ?_ z oq) (rb_locs hz hB) hla
  show H1[q]? = some (vp_cell _ _)
  rw [e]
  rw [vp_cell_i, vp_cell_i, arrV_store]
  congr 2
  funext j
  by_cases hj : j = i.toNatClampNeg
  · subst hj
    simp [updV, upd, vp_nar]
    try rfl
  · simp [updV, upd, vp_nar, hj]
theorem rb_cast (C : Cx Ev X own cc nl rt tb) {q n : Nat} {f : Nat → Int32} {i : Int32} {x : Int32} (hq : hh q = some (.inl (eA Ev 3, n, .inl f))) (hin : vp_in i n) (hdg : decode cc pc = .ok (.castore, 1))
    (kk : ∀ h' : AH, h' q = some (.inl (eA Ev 3, n, .inl (upd f i.toNatClampNeg (vp_nar .char x)))) → (∀ a, a ≠ q → h' a = hh a) → Wa Ev X R nl h' nn kc ks Q (pc + 1) lc rest) : Wa Ev X R nl hh nn kc ks Q pc lc (.int x :: .int i :: .ref q :: rest) := by
  intro H locs ls hM hz hla
  have hB := (hM.2.2.2 q _ hq).1
  refine W.cast C.1 C.2.1 (hM.2.2.2 q _ hq).2 ((C.2.2.2.2.2.1.1.2 3 _ rfl).1 n (fun j => .int (f j))) (fun q => by cases q) (by show ¬ (i < 0 ∨ (arrV _ _ _).slots.size ≤ _); rw [arrV_size]; exact hin) rfl rfl hdg fun H1 e z oq => ?_
  refine kk _ (va_up_self _ _ _) (fun a ha => va_up_ne _ _ ha) H1 _ ls (hM.set hq ?_ z oq) (rb_locs hz hB) hla
  show H1[q]? = some (vp_cell _ _)
  rw [e]
  rw [vp_cell_i, vp_cell_i, arrV_store]
  congr 2
  funext j
  by_cases hj : j = i.toNatClampNeg
  · subst hj
    simp [updV, upd, vp_nar]
    try rfl
  · simp [updV, upd, vp_nar, hj]
theorem rb_last (C : Cx Ev X own cc nl rt tb) {q n : Nat} {f : Nat → Int64} {i : Int32} {x : Int64} (hq : hh q = some (.inl (eA Ev 4, n, .inr (.inl f)))) (hin : vp_in i n) (hdg : decode cc pc = .ok (.lastore, 1))
    (kk : ∀ h' : AH, h' q = some (.inl (eA Ev 4, n, .inr (.inl (vp_updL f i.toNatClampNeg x)))) → (∀ a, a ≠ q → h' a = hh a) → Wa Ev X R nl h' nn kc ks Q (pc + 1) lc rest) : Wa Ev X R nl hh nn kc ks Q pc lc (.long x :: .int i :: .ref q :: rest) := by
  intro H locs ls hM hz hla
  have hB := (hM.2.2.2 q _ hq).1
  refine W.last C.1 C.2.1 (hM.2.2.2 q _ hq).2 ((C.2.2.2.2.2.1.1.2 4 _ rfl).1 n (fun j => .long (f j))) (fun q => by cases q) (by show ¬ (i < 0 ∨ (arrV _ _ _).slots.size ≤ _); rw [arrV_size]; exact hin) rfl rfl hdg fun H1 e z oq => ?_
  refine kk _ (va_up_self _ _ _) (fun a ha => va_up_ne _ _ ha) H1 _ ls (hM.set hq ?_ z oq) (rb_locs hz hB) hla
  show H1[q]? = some (vp_cell _ _)
  rw [e]
  rw [vp_cell_l, vp_cell_l, arrV_store]
  congr 2
  funext j
  by_cases hj : j = i.toNatClampNeg
  · subst hj
    simp [updV, vp_updL]
    try rfl
  · simp [updV, vp_updL, hj]
theorem rb_dast (C : Cx Ev X own cc nl rt tb) {q n : Nat} {f : Nat → UInt64} {i : Int32} {x : UInt64} (hq : hh q = some (.inl (eA Ev 5, n, .inr (.inr (.inr (.inl f)))))) (hin : vp_in i n) (hdg : decode cc pc = .ok (.dastore, 1))
    (kk : ∀ h' : AH, h' q = some (.inl (eA Ev 5, n, .inr (.inr (.inr (.inl (va_up f i.toNatClampNeg x)))))) → (∀ a, a ≠ q → h' a = hh a) → Wa Ev X R nl h' nn kc ks Q (pc + 1) lc rest) : Wa Ev X R nl hh nn kc ks Q pc lc (.double x :: .int i :: .ref q :: rest) := by
  intro H locs ls hM hz hla
  have hB := (hM.2.2.2 q _ hq).1
  refine W.dast C.1 C.2.1 (hM.2.2.2 q _ hq).2 ((C.2.2.2.2.2.1.1.2 5 _ rfl).1 n (fun j => .double (f j))) (fun q => by cases q) (by show ¬ (i < 0 ∨ (arrV _ _ _).slots.size ≤ _); rw [arrV_size]; exact hin) rfl rfl hdg fun H1 e z oq => ?_
  refine kk _ (va_up_self _ _ _) (fun a ha => va_up_ne _ _ ha) H1 _ ls (hM.set hq ?_ z oq) (rb_locs hz hB) hla
  show H1[q]? = some (vp_cell _ _)
  rw [e]
  rw [vp_cell_d, vp_cell_d, arrV_store]
  congr 2
  funext j
  by_cases hj : j = i.toNatClampNeg
  · subst hj
    simp [updV, va_up]
    try rfl
  · simp [updV, va_up, hj]
/-- v is an object of class C -/
def IsC (Ev : rb_E) (h : AH) (v : Nat) (C : String) : Prop := (∃ (ci : Nat) (fs : List Value) (T : u_T) (N : Nat), At Ev h v (.inr (ci, fs)) ∧ rb_CL[ci]? = some (C, T, N)) ∨ ∃ k, k < 6 ∧ v = eN Ev k ∧ C = rb_En k
theorem IsC.of {h : AH} {v ci : Nat} {C : String} {T : u_T} {N : Nat} {ty : Nat → FieldType} {fs : List Value} (hq : At Ev h v (.inr (ci, fs))) (ck : CK ci C T N ty) : IsC Ev h v C := Or.inl ⟨ci, fs, T, N, hq, ck.1⟩
theorem IsC.le {h h' : AH} {v : Nat} {C : String} (hl : AhLe h h') (x : IsC Ev h v C) : IsC Ev h' v C := x.imp (fun ⟨ci, fs, T, N, a, b⟩ => ⟨ci, fs, T, N, a.le hl, b⟩) id
theorem IsC.recv {s : State} {h : AH} {n v : Nat} {C : String} {H : Heap} (x : IsC Ev h v C) (hG : GE Ev s) (hM : Mt Ev h n H) : ∃ cell : Cell, H[v]? = some cell ∧ cell.vm.isStatics = false ∧ s.vm.findClass C = some cell.cls := by
  rcases x with ⟨ci, fs, T, N, hq, hc⟩ | ⟨k, hk, rfl, rfl⟩
  · exact va_recv hG.1 (rb_P1 (hq.of hM)) hc (q0 := 0) rfl
  · obtain ⟨cell, h1, h2, h3, h4⟩ := (hG.2.2.2.2.1 k hk).1
    exact ⟨cell, by rw [hM.2.2.1 _ (Nat.not_le.mp h4)]; exact h1, h2, h3⟩
theorem rb_aast (C : Cx Ev X own cc nl rt tb) {q n v : Nat} (t0 : Nat) {cA : ClassId} {Ce Cv : String} {f : Nat → Option Nat} {i : Int32} (ht : (rb_TY Ev)[t0]? = some (cA, .object Ce)) (hq : hh q = some (.inl (cA, n, aQ f))) (hin : vp_in i n) (hv : IsC Ev hh v Cv) (hcast : Cond.castable Cv Ce ∈ lw_tbl) (hdg : decode cc pc = .ok (.aastore, 1))
    (kk : ∀ h' : AH, h' q = some (.inl (cA, n, aQ (va_up f i.toNatClampNeg (some v)))) → (∀ a, a ≠ q → h' a = hh a) → Wa Ev X R nl h' nn kc ks Q (pc + 1) lc rest) : Wa Ev X R nl hh nn kc ks Q pc lc (.ref v :: .int i :: .ref q :: rest) := by
  intro H locs ls hM hz hla
  have hlt : i.toNatClampNeg < n := Nat.not_le.mp fun q => hin (Or.inr q)
  have h0 : ¬ i < 0 := fun q => hin (Or.inl q)
  have hG := C.2.2.2.2.2.1
  obtain ⟨cellV, g1, g2, g3⟩ := hv.recv hG hM
  obtain ⟨c3, c4, hc3, hc4, hasg⟩ := Cond.castable_spec (hG.2.2.2.1 _ hcast rfl)
  cases Option.some.inj (hc3.symm.trans g3)
  obtain ⟨kA, comp, k1, k2, k3, -⟩ := (hG.1.2 t0 _ ht).2
  cases Option.some.inj (hc4.symm.trans k3)
  obtain ⟨kC, hkC, -⟩ := Vm.findClass_spec k3
  obtain ⟨kV, hkV, -⟩ := Vm.findClass_spec g3
  have hB := (hM.2.2.2 q _ hq).1
  have hob : ∀ x, cellV.vm ≠ .statics x := fun x h => by rw [h] at g2; cases g2
  refine W.aast C.1 C.2.1 (hM.2.2.2 q _ hq).2 (fun q h => by cases h) (fun h => by cases h) k1 k2 rfl hkC ⟨h0, by show _ < (arrV _ _ _).slots.size; rw [arrV_size]; exact hlt⟩ g1 hob hkV hasg rfl rfl hdg fun H1 e z oq => ?_
  refine kk _ (va_up_self _ _ _) (fun a ha => va_up_ne _ _ ha) H1 _ ls (hM.set hq ?_ z oq) (rb_locs hz hB) hla
  show H1[q]? = some (vp_cell _ _)
  rw [e]
  rw [vp_cell_q, vp_cell_q, arrV_store]
  congr 2
  funext j
  by_cases hj : j = i.toNatClampNeg
  · subst hj
    simp [updV, va_up, va_rf]
  · simp [updV, va_up, hj]
theorem rb_aastN (C : Cx Ev X own cc nl rt tb) {q n : Nat} (t0 : Nat) {cA : ClassId} {Ce : String} {f : Nat → Option Nat} {i : Int32} (ht : (rb_TY Ev)[t0]? = some (cA, .object Ce)) (hq : hh q = some (.inl (cA, n, aQ f))) (hin : vp_in i n) (hdg : decode cc pc = .ok (.aastore, 1))
    (kk : ∀ h' : AH, h' q = some (.inl (cA, n, aQ (va_up f i.toNatClampNeg none))) → (∀ a, a ≠ q → h' a = hh a) → Wa Ev X R nl h' nn kc ks Q (pc + 1) lc rest) : Wa Ev X R nl hh nn kc ks Q pc lc (.null :: .int i :: .ref q :: rest) := by
  intro H locs ls hM hz hla
  have hB := (hM.2.2.2 q _ hq).1
  refine va_WaastN C.1 C.2.1 (hM.2.2.2 q _ hq).2 ((C.2.2.2.2.2.1.1.2 t0 _ ht).1 n (fun j => va_rf (f j))) (fun q => by cases q) (by show ¬ (i < 0 ∨ (arrV _ _ _).slots.size ≤ _); rw [arrV_size]; exact hin) rfl rfl hdg fun H1 e z oq => ?_
  refine kk _ (va_up_self _ _ _) (fun a ha => va_up_ne _ _ ha) H1 _ ls (hM.set hq ?_ z oq) (rb_locs hz hB) hla
  show H1[q]? = some (vp_cell _ _)
  rw [e]
  rw [vp_cell_q, vp_cell_q, arrV_store]
  congr 2
  funext j
  by_cases hj : j = i.toNatClampNeg
  · subst hj
    simp [updV, va_up, va_rf]
  · simp [updV, va_up, hj]
/-! NEW -/
theorem rb_new (C : Cx Ev X own cc nl rt tb) {ci N index : Nat} {Cn : String} {T : u_T} {ty : Nat → FieldType} (ck : CK ci Cn T N ty) (hl : Cond.classLink own index Cn ∈ lw_all) (hi : Cond.instantiable Cn N ∈ lw_all) (hn : Cond.initialized Cn ∈ lw_all) (fs : List Value) (hfs : (List.range N).map (fun j => defaultValue (ty j)) = fs) (hc : kc + 1 ≤ R.cells) (hs : ks + N ≤ R.slots) (hdg : decode cc pc = .ok (.new index, 3))
    (kk : ∀ h' : AH, h' nn = some (.inr (ci, fs)) → (∀ a, a ≠ nn → h' a = hh a) → AhLe hh h' → Wa Ev X R nl h' (nn + 1) (kc + 1) (ks + N) Q (pc + 3) lc (.ref nn :: rest)) : Wa Ev X R nl hh nn kc ks Q pc lc rest := by
  obtain ⟨hck, hin, hty, hnm⟩ := ck
  intro H locs ls hM hz hla
  have hts := C.2.2.2.2.1
  have hKn := C.2.2.2.2.2.1.1.1 ci _ hck
  refine W.newcK C.1 C.2.1 C.2.2.2.1 (hts _ hl) (hts _ hi) (hts _ hn) rfl hdg hc hs hKn.2.1 hM.1 fun H1 kC hkC e1 z1 o1 => ?_
  refine kk _ (va_up_self _ _ _) (fun a ha => va_up_ne _ _ ha) (fun a e ha => by rw [va_up_ne _ _ (Nat.ne_of_lt (hM.lt ha))]; exact ha) H1 locs ls (hM.pushO ⟨_, hck, (u_born ty hts hin hKn hkC e1 hty).to (fun j hj => ?_)⟩ (fun c hc => by cases hc.symm.trans e1; rfl) (by rw [z1, hM.1]) (fun q hq => o1 q (by rw [← hM.1]; exact hq))) hz hla
  rw [← hfs]
  simp [vp_V, hj]
theorem rb_newa (C : Cx Ev X own cc nl rt tb) (t0 : Nat) {atype : ArrayType} {cA : ClassId} {ty : FieldType} (ht : (rb_TY Ev)[t0]? = some (cA, ty)) (hty : newarray.typeOf atype = ty) (hprim : ty.isReference = false) (ha : Cond.arrayClass ty ∈ lw_all) {n : Int32} {N : Nat} (a0 : vp_A) (hv : ∀ cA : ClassId, vp_cell cA a0 = arrV cA N (fun _ => defaultValue ty)) (hn : n = nI N) (hN : N ≤ 65536) (hc : kc + 1 ≤ R.cells) (hs : ks + N ≤ R.slots) (hdg : decode cc pc = .ok (.newarray atype, 2))
    (kk : ∀ h' : AH, h' nn = some (.inl (cA, a0)) → (∀ a, a ≠ nn → h' a = hh a) → AhLe hh h' → Wa Ev X R nl h' (nn + 1) (kc + 1) (ks + N) Q (pc + 2) lc (.ref nn :: rest)) : Wa Ev X R nl hh nn kc ks Q pc lc (.int n :: rest) := by
  subst hty
  subst hn
  intro H locs ls hM hz hla
  have hts := C.2.2.2.2.1
  have hb : N * componentBytes (newarray.typeOf atype) ≤ 536870912 := by
    have h8 : componentBytes (newarray.typeOf atype) ≤ 8 := by cases atype <;> decide
    have := Nat.mul_le_mul hN h8
    omega
  refine va_newaK C.1 C.2.1 (hts _ ha) rfl hdg rfl (nI_pos (by omega)) (nI_clamp (by omega)) hb hc hs hM.1 fun H1 cA' e1 z1 o1 hAr hNm => ?_
  have hcA : cA' = cA := by
    have h9 := (C.2.2.2.2.2.1.1.2 t0 _ ht).2
    have h8 : X.2.2.2.1.vm.findClass ("[" ++ (newarray.typeOf atype).toString) = some cA := by cases atype <;> exact h9
    exact Option.some.inj (hNm.symm.trans h8)
  subst hcA
  refine kk _ (va_up_self _ _ _) (fun a ha => va_up_ne _ _ ha) (fun a e ha => by rw [va_up_ne _ _ (Nat.ne_of_lt (hM.lt ha))]; exact ha) H1 locs ls (hM.push ?_ (by rw [z1, hM.1]) (fun q hq => o1 q (by rw [← hM.1]; exact hq))) hz hla
  show H1[nn]? = some (vp_cell _ _)
  rw [hv]
  exact e1
theorem rb_newq (C : Cx Ev X own cc nl rt tb) (t0 : Nat) {cA : ClassId} {Ce : String} {index : Nat} (ht : (rb_TY Ev)[t0]? = some (cA, .object Ce)) (hl : Cond.classLink own index Ce ∈ lw_all) (ho : Cond.arrayOver (.object Ce) ∈ lw_tbl) {n : Int32} {N : Nat} (hn : n = nI N) (hN : N ≤ 65536) (hc : kc + 1 ≤ R.cells) (hs : ks + N ≤ R.slots) (hdg : decode cc pc = .ok (.anewarray index, 3))
    (kk : ∀ h' : AH, h' nn = some (.inl (cA, N, aQ (fun _ => none))) → (∀ a, a ≠ nn → h' a = hh a) → AhLe hh h' → Wa Ev X R nl h' (nn + 1) (kc + 1) (ks + N) Q (pc + 3) lc (.ref nn :: rest)) : Wa Ev X R nl hh nn kc ks Q pc lc (.int n :: rest) := by
  subst hn
  intro H locs ls hM hz hla
  have hts := C.2.2.2.2.1
  have hG := C.2.2.2.2.2.1
  have e9 : (nI N).toNatClampNeg = N := nI_clamp (by omega)
  refine W.anew C.1 C.2.1 C.2.2.2.1 (hts _ hl) (va_AO.use (hG.2.2.2.1 _ ho rfl)) rfl hdg rfl (nI_pos (by omega)) (by rw [e9]; omega) hc (by rw [e9]; exact hs) fun cA' kA comp f1 f2 f3 f4 => ?_
  generalize hH1 : H.push ({ cls := cA', slots := Array.replicate (nI N).toNatClampNeg .null, vm := .none } : Cell) = H1
  rw [e9] at hH1 ⊢
  have z1 : H1.size = H.size + 1 := by rw [← hH1, Array.size_push]
  have e1 : H1[H.size]? = some (arrV cA' N (fun _ => .null)) := by rw [← hH1, Array.getElem?_push_size, ← arrV_new]
  have o1 : ∀ q : Nat, q < H.size → H1[q]? = H[q]? := fun q hq => by rw [← hH1, Array.getElem?_push, if_neg (Nat.ne_of_lt hq)]
  have hcA : cA' = cA := by
    obtain ⟨kA9, comp9, g1, g2, g3, g4⟩ := (hG.1.2 t0 _ ht).2
    exact Option.some.inj (f1.symm.trans g4)
  subst hcA
  rw [hM.1] at e1 ⊢
  refine kk _ (va_up_self _ _ _) (fun a ha => va_up_ne _ _ ha) (fun a e ha => by rw [va_up_ne _ _ (Nat.ne_of_lt (hM.lt ha))]; exact ha) H1 locs ls (hM.push ?_ z1 o1) hz hla
  show H1[nn]? = some (vp_cell _ _)
  rw [vp_cell_q]
  exact e1
/-! CLASSES OF OBJECTS -/
theorem rb_castY (C : Cx Ev X own cc nl rt tb) {q index : Nat} {Cv nm : String} (hl : Cond.classLink own index nm ∈ lw_all) (hc : Cond.castable Cv nm ∈ lw_tbl) (hq : IsC Ev hh q Cv) (hdg : decode cc pc = .ok (.checkcast index, 3)) (k : Wa Ev X R nl hh nn kc ks Q (pc + 3) lc (.ref q :: rest)) : Wa Ev X R nl hh nn kc ks Q pc lc (.ref q :: rest) :=
  fun H locs ls hM hz hla => va_castY C.1 C.2.1 C.2.2.2.1 (C.2.2.2.2.1 _ hl) (C.2.2.2.2.2.1.2.2.2.1 _ hc rfl) (hq.recv C.2.2.2.2.2.1 hM) hdg (k H locs ls hM hz hla)
theorem rb_castS (C : Cx Ev X own cc nl rt tb) {q ci index N : Nat} {nm : String} {T : u_T} {ty : Nat → FieldType} (hl : Cond.classLink own index nm ∈ lw_all) (ck : CK ci nm T N ty) (hq : IsC Ev hh q nm) (hdg : decode cc pc = .ok (.checkcast index, 3)) (k : Wa Ev X R nl hh nn kc ks Q (pc + 3) lc (.ref q :: rest)) : Wa Ev X R nl hh nn kc ks Q pc lc (.ref q :: rest) :=
  fun H locs ls hM hz hla => va_castS C.1 C.2.1 C.2.2.2.1 (C.2.2.2.2.1 _ hl) (C.2.2.2.2.2.1.1.1 ci _ ck.1).2 (hq.recv C.2.2.2.2.2.1 hM) hdg (k H locs ls hM hz hla)
theorem rb_instY (C : Cx Ev X own cc nl rt tb) {q index : Nat} {Cv nm : String} (hl : Cond.classLink own index nm ∈ lw_all) (hc : Cond.castable Cv nm ∈ lw_tbl) (hq : IsC Ev hh q Cv) (hdg : decode cc pc = .ok (.instanceof index, 3)) (k : Wa Ev X R nl hh nn kc ks Q (pc + 3) lc (.int 1 :: rest)) : Wa Ev X R nl hh nn kc ks Q pc lc (.ref q :: rest) :=
  fun H locs ls hM hz hla => va_instY C.1 C.2.1 C.2.2.2.1 (C.2.2.2.2.1 _ hl) (C.2.2.2.2.2.1.2.2.2.1 _ hc rfl) (hq.recv C.2.2.2.2.2.1 hM) hdg (k H locs ls hM hz hla)
theorem rb_instS (C : Cx Ev X own cc nl rt tb) {q ci index N : Nat} {nm : String} {T : u_T} {ty : Nat → FieldType} (hl : Cond.classLink own index nm ∈ lw_all) (ck : CK ci nm T N ty) (hq : IsC Ev hh q nm) (hdg : decode cc pc = .ok (.instanceof index, 3)) (k : Wa Ev X R nl hh nn kc ks Q (pc + 3) lc (.int 1 :: rest)) : Wa Ev X R nl hh nn kc ks Q pc lc (.ref q :: rest) :=
  fun H locs ls hM hz hla => va_instS C.1 C.2.1 C.2.2.2.1 (C.2.2.2.2.1 _ hl) (C.2.2.2.2.2.1.1.1 ci _ ck.1).2 (hq.recv C.2.2.2.2.2.1 hM) hdg (k H locs ls hM hz hla)
theorem rb_instNo (C : Cx Ev X own cc nl rt tb) {q index : Nat} {Cv nm : String} (hl : Cond.classLink own index nm ∈ lw_all) (hc : (Cv, nm) ∈ rb_nc) (hq : IsC Ev hh q Cv) (hdg : decode cc pc = .ok (.instanceof index, 3)) (k : Wa Ev X R nl hh nn kc ks Q (pc + 3) lc (.int 0 :: rest)) : Wa Ev X R nl hh nn kc ks Q pc lc (.ref q :: rest) :=
  fun H locs ls hM hz hla => va_instNo C.1 C.2.1 C.2.2.2.1 (C.2.2.2.2.1 _ hl) (C.2.2.2.2.2.1.2.2.2.2.2.1 _ hc) (hq.recv C.2.2.2.2.2.1 hM) hdg (k H locs ls hM hz hla)
theorem rb_castN (C : Cx Ev X own cc nl rt tb) {index : Nat} (hdg : decode cc pc = .ok (.checkcast index, 3)) (k : Wa Ev X R nl hh nn kc ks Q (pc + 3) lc (.null :: rest)) : Wa Ev X R nl hh nn kc ks Q pc lc (.null :: rest) := fun H locs ls hM hz hla => lv_castN C.1 C.2.1 hdg (k H locs ls hM hz hla)
theorem rb_instN (C : Cx Ev X own cc nl rt tb) {index : Nat} (hdg : decode cc pc = .ok (.instanceof index, 3)) (k : Wa Ev X R nl hh nn kc ks Q (pc + 3) lc (.int 0 :: rest)) : Wa Ev X R nl hh nn kc ks Q pc lc (.null :: rest) := fun H locs ls hM hz hla => lv_instN C.1 C.2.1 hdg (k H locs ls hM hz hla)
/-! STATICS, STRING CONSTANTS -/
theorem rb_gets (C : Cx Ev X own cc nl rt tb) {index : Nat} {Cs n d : String} {v : Value} (hl : Cond.fieldLink own index Cs n d ∈ lw_all) (hs : Cond.laysStatic Cs n d ∈ lw_tbl) (hv : eV Ev Cs n = v) (hdg : decode cc pc = .ok (.getstatic index, 3)) (k : Wa Ev X R nl hh nn kc ks Q (pc + 3) lc (v :: rest)) : Wa Ev X R nl hh nn kc ks Q pc lc rest := by
  subst hv
  intro H locs ls hM hz hla
  obtain ⟨cf, kf, fi, f, a, cell, h1, h2, h3, h4, h5, h6, h7, h8⟩ := C.2.2.2.2.2.1.2.1 _ _ _ hs
  exact W.gets C.1 C.2.1 C.2.2.2.1 (C.2.2.2.2.1 _ hl) h1 h2 h3 h4 (by rw [hM.2.2.1 a (Nat.not_le.mp h8)]; exact h5) (fun e => by rw [e] at h6; cases h6) h7 rfl hdg (k H locs ls hM hz hla)
theorem rb_ldcS (C : Cx Ev X own cc nl rt tb) {index : Nat} {tx : String} (hs : Cond.stringRef own index tx ∈ lw_tbl) (hdg : decode cc pc = .ok (.ldc index, 2)) (k : Wa Ev X R nl hh nn kc ks Q (pc + 2) lc (.ref (eS Ev own index) :: rest)) : Wa Ev X R nl hh nn kc ks Q pc lc rest :=
  fun H locs ls hM hz hla => va_ldcS C.1 C.2.1 C.2.2.2.1 (C.2.2.2.2.2.1.2.2.1 _ _ _ hs) hdg (k H locs ls hM hz hla)
/-- Object.<init> -/
theorem rb_objInit (C : Cx Ev X own cc nl rt tb) {q idx : Nat} (h1 : Cond.methodLink own idx objectInit ∈ lw_all) (h2 : Cond.instanceMethod objectInit ∈ lw_all) (h3 : Cond.code objectInit ⟨#[0xb1]⟩ 1 none ∈ lw_all) (hdg : decode cc pc = .ok (.invokespecial idx, 3)) (hf : 1 ≤ R.frames) (hlo : (rest.map fun v => v.category).sum + 12 ≤ R.locals) (k : Wa Ev X R nl hh nn kc ks Q (pc + 3) lc rest) : Wa Ev X R nl hh nn kc ks Q pc lc (.ref q :: rest) :=
  fun H locs ls hM hz hla => W.objInit C.1 C.2.1 C.2.2.2.1 (C.2.2.2.2.1 _ h1) (C.2.2.2.2.1 _ h2) (C.2.2.2.2.1 _ h3) rfl (by rw [C.2.2.1]; exact hla.1) rfl hdg hf (by show 2 * 0 + _ + _ ≤ _; omega) (k H locs ls hM hz hla)
/-! ENDS -/
theorem rb_iret (C : Cx Ev X own cc nl rt tb) {rm : Room} {post : rb_R → AH → Nat → Prop} {v : Int32} {ty : FieldType} (hrt : rt = some ty) (hn : narrow ty (.int v) = .int v) (hc : kc ≤ rm.cells) (hs : ks ≤ rm.slots) (hdg : decode cc pc = .ok (.ireturn, 1)) (hp : post (.inl (some (.int v))) hh nn) : Wa Ev X R nl hh nn kc ks (rb_MQ Ev X rm post) pc lc [.int v] := by
  intro H locs ls hM hz hla T hT Y
  have hsz : X.2.2.2.1.heap.size ≤ nn := by rw [← hM.1, ← hT]; exact Y.same.2.1
  exact vy_ret (W.widen hc hs (W.zret (v := v) C.1 C.2.1 (C.2.2.2.2.2.2.2.2.1.trans hrt) hn (fun t ht hW => ⟨some (.int v), hh, nn, rfl, by rw [ht]; exact hM, hsz, hp⟩) hz hdg C.2.2.2.2.2.2.2.1)) T hT Y
theorem rb_vret (C : Cx Ev X own cc nl rt tb) {rm : Room} {post : rb_R → AH → Nat → Prop} (hrt : rt = none) (hc : kc ≤ rm.cells) (hs : ks ≤ rm.slots) (hdg : decode cc pc = .ok (.return_, 1)) (hp : post (.inl none) hh nn) : Wa Ev X R nl hh nn kc ks (rb_MQ Ev X rm post) pc lc [] := by
  intro H locs ls hM hz hla T hT Y
  have hsz : X.2.2.2.1.heap.size ≤ nn := by rw [← hM.1, ← hT]; exact Y.same.2.1
  exact vy_ret (W.widen hc hs (W.vret C.1 C.2.1 (C.2.2.2.2.2.2.2.2.1.trans hrt) (fun t ht hW => ⟨none, hh, nn, rfl, by rw [ht]; exact hM, hsz, hp⟩) hz hdg C.2.2.2.2.2.2.2.1)) T hT Y
theorem rb_aret (C : Cx Ev X own cc nl rt tb) {rm : Room} {post : rb_R → AH → Nat → Prop} {v : Value} {ty : FieldType} (hrt : rt = some ty) (hty : (∃ n, ty = .object n) ∨ ∃ t, ty = .array t) (hv : v = .null ∨ ∃ a, v = .ref a) (hc : kc ≤ rm.cells) (hs : ks ≤ rm.slots) (hdg : decode cc pc = .ok (.areturn, 1)) (hp : post (.inl (some v)) hh nn) : Wa Ev X R nl hh nn kc ks (rb_MQ Ev X rm post) pc lc [v] := by
  intro H locs ls hM hz hla T hT Y
  have hsz : X.2.2.2.1.heap.size ≤ nn := by rw [← hM.1, ← hT]; exact Y.same.2.1
  exact vy_ret (W.widen hc hs (W.aret C.1 C.2.1 (C.2.2.2.2.2.2.2.2.1.trans hrt) hty hv (fun t ht hW => ⟨some v, hh, nn, rfl, by rw [ht]; exact hM, hsz, hp⟩) hz hdg C.2.2.2.2.2.2.2.1)) T hT Y
theorem rb_lret (C : Cx Ev X own cc nl rt tb) {rm : Room} {post : rb_R → AH → Nat → Prop} {v : Int64} (hrt : rt = some .long) (hc : kc ≤ rm.cells) (hs : ks ≤ rm.slots) (hdg : decode cc pc = .ok (.lreturn, 1)) (hp : post (.inl (some (.long v))) hh nn) : Wa Ev X R nl hh nn kc ks (rb_MQ Ev X rm post) pc lc [.long v] := by
  intro H locs ls hM hz hla T hT Y
  have hsz : X.2.2.2.1.heap.size ≤ nn := by rw [← hM.1, ← hT]; exact Y.same.2.1
  exact vy_ret (W.widen hc hs (W.lret (v := v) C.1 C.2.1 (C.2.2.2.2.2.2.2.2.1.trans hrt) (fun t ht hW => ⟨some (.long v), hh, nn, rfl, by rw [ht]; exact hM, hsz, hp⟩) hz hdg C.2.2.2.2.2.2.2.1)) T hT Y
theorem rb_fret (C : Cx Ev X own cc nl rt tb) {rm : Room} {post : rb_R → AH → Nat → Prop} {v : UInt32} (hrt : rt = some .float) (hc : kc ≤ rm.cells) (hs : ks ≤ rm.slots) (hdg : decode cc pc = .ok (.freturn, 1)) (hp : post (.inl (some (.float v))) hh nn) : Wa Ev X R nl hh nn kc ks (rb_MQ Ev X rm post) pc lc [.float v] := by
  intro H locs ls hM hz hla T hT Y
  have hsz : X.2.2.2.1.heap.size ≤ nn := by rw [← hM.1, ← hT]; exact Y.same.2.1
  exact vy_ret (W.widen hc hs (W.fret (v := v) C.1 C.2.1 (C.2.2.2.2.2.2.2.2.1.trans hrt) (fun t ht hW => ⟨some (.float v), hh, nn, rfl, by rw [ht]; exact hM, hsz, hp⟩) hz hdg C.2.2.2.2.2.2.2.1)) T hT Y
theorem rb_dret (C : Cx Ev X own cc nl rt tb) {rm : Room} {post : rb_R → AH → Nat → Prop} {v : UInt64} (hrt : rt = some .double) (hc : kc ≤ rm.cells) (hs : ks ≤ rm.slots) (hdg : decode cc pc = .ok (.dreturn, 1)) (hp : post (.inl (some (.double v))) hh nn) : Wa Ev X R nl hh nn kc ks (rb_MQ Ev X rm post) pc lc [.double v] := by
  intro H locs ls hM hz hla T hT Y
  have hsz : X.2.2.2.1.heap.size ≤ nn := by rw [← hM.1, ← hT]; exact Y.same.2.1
  exact vy_ret (W.widen hc hs (W.dret (v := v) C.1 C.2.1 (C.2.2.2.2.2.2.2.2.1.trans hrt) (fun t ht hW => ⟨some (.double v), hh, nn, rfl, by rw [ht]; exact hM, hsz, hp⟩) hz hdg C.2.2.2.2.2.2.2.1)) T hT Y
/-- not caught here: it leaves the method -/
theorem rb_out (C : Cx Ev X own cc nl rt tb) {rm : Room} {post : rb_R → AH → Nat → Prop} {E : String} {q : Nat} (hout : ∀ x ∈ tb, covers x pc = false) (hc : kc ≤ rm.cells) (hs : ks ≤ rm.slots) (hp : post (.inr (E, q)) hh nn) : WaX Ev X R nl hh nn kc ks (rb_MQ Ev X rm post) pc lc E q := by
  intro H locs ls ce rest hM hz hla h1 h2 h3 T hT Y
  have hsz : X.2.2.2.1.heap.size ≤ nn := by rw [← hM.1, ← hT]; exact Y.same.2.1
  exact vy_out (by rw [C.2.2.2.2.2.2.2.2.2.1]; exact hout) C.2.2.2.2.2.2.2.1 h1 h2 h3 (fun t ht hW => ⟨hh, nn, by rw [ht]; exact hM, hsz, hp⟩) hz hc hs T hT Y
/-- caught by the row x of the table -/
theorem rb_catch (C : Cx Ev X own cc nl rt tb) {E name : String} {q : Nat} (pre : List ExceptionTableEntry) (x : ExceptionTableEntry) (suf : List ExceptionTableEntry) (hsplit : tb = pre ++ x :: suf) (hpass : ∀ z ∈ pre, covers z pc = false ∨ (z.catchType ≠ 0 ∧ ∃ nm : String, Cond.classLink own z.catchType nm ∈ lw_all ∧ (E, nm) ∈ rb_nc)) (hx : covers x pc = true) (h0 : x.catchType ≠ 0) (hl : Cond.classLink own x.catchType name ∈ lw_all) (hcast : Cond.castable E name ∈ lw_tbl)
    (kk : Wa Ev X R nl hh nn kc ks Q x.handlerPc lc [.ref q]) : WaX Ev X R nl hh nn kc ks Q pc lc E q := by
  intro H locs ls ce rest hM hz hla h1 h2 h3
  exact vy_catch C.2.2.2.1 pre x suf (C.2.2.2.2.2.2.2.2.2.1.trans hsplit) (fun z hz => (hpass z hz).imp id (fun ⟨a, nm, b, c⟩ => ⟨a, nm, C.2.2.2.2.1 _ b, C.2.2.2.2.2.1.2.2.2.2.2.1 _ c⟩)) hx h0 (C.2.2.2.2.1 _ hl) (va_Nw.use rfl (C.2.2.2.2.2.1.2.2.2.1 _ hcast rfl)) h1 h2 h3 (kk H locs ls hM hz hla)
/-! CALLS -/
def MIc (y : MethodName) (b : ByteArray) (L : Nat) (r : Option FieldType) (n : Nat) : Prop := Cond.code y b L r ∈ lw_all ∧ Cond.initialized y.cls ∈ lw_all ∧ y.cls ≠ "java/lang/invoke/MethodHandle" ∧ y.cls ≠ "java/lang/invoke/VarHandle" ∧ (parseMethodDescriptor y.desc).map (fun d => d.parameters.length) = some n
def MIw (y : MethodName) (b : ByteArray) (L : Nat) (r : Option FieldType) (hs : List (Nat × Nat × Nat × Nat)) (n : Nat) : Prop := Cond.codeWith y b L r hs ∈ lw_all ∧ Cond.initialized y.cls ∈ lw_all ∧ y.cls ≠ "java/lang/invoke/MethodHandle" ∧ y.cls ≠ "java/lang/invoke/VarHandle" ∧ (parseMethodDescriptor y.desc).map (fun d => d.parameters.length) = some n
/-- the room that a call asks -/
def RmOk (R : Room) (kc ks L : Nat) (rm : Room) : Prop := rm.frames + 1 ≤ R.frames ∧ 8 + (L + 11) + rm.locals ≤ R.locals ∧ kc + rm.cells ≤ R.cells ∧ ks + rm.slots ≤ R.slots
theorem rb_blind {as : List Value} {h : AH} {n : Nat} : FrameBlind (va_Pc as (fun U => GE Ev U ∧ Mt Ev h n U.heap)) := fun a U g mk ⟨h1, h2, h3⟩ => ⟨h1, GE.warm (s := U) (U := U.calling g mk a) (State.WarmedH.refl U) h2, h3⟩
theorem rb_cont {rm : Room} {post : rb_R → AH → Nat → Prop} {a : Array Value} {H : Heap} {locs : List Loc} {ls : Array Slot} {st : List Value} (hM : Mt Ev hh nn H) (hz : ∀ z ∈ locs, (eH Ev).size ≤ z.base) (hla : lv_has ls nl lc)
    (hr : vy_Run X.1 X.2.1 X.2.2.1 R X.2.2.2.1 X.2.2.2.2.1 X.2.2.2.2.2.1 X.2.2.2.2.2.2.1 X.2.2.2.2.2.2.2.1 X.2.2.2.2.2.2.2.2 H locs kc ks rm.cells rm.slots (F0 X.2.2.2.2.1 pc ls st) rest (rb_Qc Ev post a) (rb_XC Ev post) (rb_A Ev))
    (kx : ∀ (E : String) (q : Nat) (h' : AH) (n' : Nat), nn ≤ n' → post (.inr (E, q)) h' n' → WaX Ev X R nl h' n' (kc + rm.cells) (ks + rm.slots) Q pc lc E q)
    (kk : ∀ (v : Option Value) (h' : AH) (n' : Nat), nn ≤ n' → post (.inl v) h' n' → Wa Ev X R nl h' n' (kc + rm.cells) (ks + rm.slots) Q (pc + 3) lc (v.toList ++ rest)) : W X.1 X.2.1 X.2.2.1 R X.2.2.2.1 X.2.2.2.2.1 X.2.2.2.2.2.1 X.2.2.2.2.2.2.1 X.2.2.2.2.2.2.2.1 X.2.2.2.2.2.2.2.2 H locs kc ks Q (F0 X.2.2.2.2.1 pc ls st) := by
  intro T hT Y
  have hzz : ∀ L : List Loc, (∀ q ∈ L, rb_A Ev q.base) → ∀ z ∈ locs ++ L, (eH Ev).size ≤ z.base := fun L hL z h => (List.mem_append.mp h).elim (hz z) (hL z)
  rcases hr T hT Y with ⟨v, st₀, t, T', L, h0, Y', hL, e1, e2, ⟨v', h', n', hv, hM', hn', hp⟩, st⟩ | ⟨q, st₀, t, T', L, E, ce, h0, Y', hL, e1, e2, ⟨h', n', hM', hn', hp⟩, hce, hcv, hcl, st⟩
  · cases hv
    have hn9 : nn ≤ n' := by rw [h0, hM.1] at hn'; exact hn'
    obtain ⟨t2, a1, b1⟩ := kk v h' n' hn9 hp T'.heap (locs ++ L) ls (by rw [e1]; exact hM') (hzz L hL) hla T' rfl Y'
    exact ⟨t2, st t2 a1, b1⟩
  · have hn9 : nn ≤ n' := by rw [h0, hM.1] at hn'; exact hn'
    obtain ⟨t2, a1, b1⟩ := kx E q h' n' hn9 hp T'.heap (locs ++ L) ls ce rest (by rw [e1]; exact hM') (hzz L hL) hla (by rw [e1]; exact hce) hcv hcl T' rfl Y'
    exact ⟨t2, st.trans a1, b1⟩
def SS (own : String) (idx : Nat) (y : MethodName) : Prop := Cond.methodLink own idx y ∈ lw_all ∧ Cond.static y ∈ lw_all
def SV (own : String) (idx : Nat) (y : MethodName) : Prop := Cond.methodLink own idx y ∈ lw_all ∧ Cond.instanceMethod y ∈ lw_all ∧ Cond.selects y.cls y y ∈ lw_all
def SI (own : String) (idx : Nat) (y : MethodName) : Prop := Cond.methodLink own idx y ∈ lw_all ∧ Cond.instanceMethod y ∈ lw_all ∧ y.name = "<init>"
def SSN (own : String) (idx : Nat) (y : MethodName) (host : String) : Prop := Cond.methodLinkNest own idx y host ∈ lw_tbl ∧ Cond.static y ∈ lw_all
def SVN (own : String) (idx : Nat) (y : MethodName) (host : String) : Prop := Cond.methodLinkNest own idx y host ∈ lw_tbl ∧ Cond.instanceMethod y ∈ lw_all ∧ Cond.selects y.cls y y ∈ lw_all
def SIN (own : String) (idx : Nat) (y : MethodName) (host : String) : Prop := Cond.methodLinkNest own idx y host ∈ lw_tbl ∧ Cond.instanceMethod y ∈ lw_all ∧ y.name = "<init>"
def SU (own : String) (idx : Nat) (C owner : String) (x y : MethodName) : Prop := (Cond.methodLink own idx x ∈ lw_all ∧ Cond.sameMethod x.cls owner x.name x.desc ∈ lw_all ∧ Cond.selects C x y ∈ lw_all ∧ Cond.instanceMethod y ∈ lw_all) ∧ y = ⟨owner, x.name, x.desc⟩
section RC
variable {y : MethodName} {b : ByteArray} {L n idx : Nat} {r : Option FieldType} {hs : List (Nat × Nat × Nat × Nat)} {rm : Room} {post : rb_R → AH → Nat → Prop} {As st : List Value} {q : Nat} {host : String}
theorem rb_callS (C : Cx Ev X own cc nl rt tb) (mi : MIc y b L r n) (sl : SS own idx y) (hc : Ct Ev y (ws_ y b L r) rm As hh nn post) (hn : As.length = n) (hst : st = As.reverse ++ rest) (hW : (rest.map fun v => v.category).sum ≤ 8) (hR : RmOk R kc ks L rm) (hdg : decode cc pc = .ok (.invokestatic idx, 3))
    (kx : ∀ (E : String) (q : Nat) (h' : AH) (n' : Nat), nn ≤ n' → post (.inr (E, q)) h' n' → WaX Ev X R nl h' n' (kc + rm.cells) (ks + rm.slots) Q pc lc E q)
    (kk : ∀ (v : Option Value) (h' : AH) (n' : Nat), nn ≤ n' → post (.inl v) h' n' → Wa Ev X R nl h' n' (kc + rm.cells) (ks + rm.slots) Q (pc + 3) lc (v.toList ++ rest)) : Wa Ev X R nl hh nn kc ks Q pc lc st :=
  fun H locs ls hM hz hla => rb_cont hM hz hla (vy_runS (As := As) ⟨C.1, C.2.1, C.2.2.1, C.2.2.2.1, C.2.2.2.2.1⟩ (hc X.2.1 C.2.2.2.2.2.2.1) (va_cwS n C.2.2.2.2.1 (lw_S sl.1 sl.2 mi.2.1 mi.1) rfl rfl rfl mi.2.2 ⟨hR.1, hR.2.1⟩) ⟨rb_blind, fun U hU hW => ⟨rfl, GE.warm hW C.2.2.2.2.2.1, by rw [hU]; exact hM⟩⟩ rfl hn hla.1 hst (by show 2 * 0 + _ ≤ _; omega) hdg hR.2.2) kx kk
theorem rb_callV (C : Cx Ev X own cc nl rt tb) (mi : MIc y b L r n) (sl : SV own idx y) (hq : IsC Ev hh q y.cls) (hc : Ct Ev y (ws_ y b L r) rm (.ref q :: As) hh nn post) (hn : As.length = n) (hst : st = As.reverse ++ .ref q :: rest) (hW : (rest.map fun v => v.category).sum ≤ 8) (hR : RmOk R kc ks L rm) (hdg : decode cc pc = .ok (.invokevirtual idx, 3))
    (kx : ∀ (E : String) (q : Nat) (h' : AH) (n' : Nat), nn ≤ n' → post (.inr (E, q)) h' n' → WaX Ev X R nl h' n' (kc + rm.cells) (ks + rm.slots) Q pc lc E q)
    (kk : ∀ (v : Option Value) (h' : AH) (n' : Nat), nn ≤ n' → post (.inl v) h' n' → Wa Ev X R nl h' n' (kc + rm.cells) (ks + rm.slots) Q (pc + 3) lc (v.toList ++ rest)) : Wa Ev X R nl hh nn kc ks Q pc lc st :=
  fun H locs ls hM hz hla => rb_cont hM hz hla (vy_runV (As := As) ⟨C.1, C.2.1, C.2.2.1, C.2.2.2.1, C.2.2.2.2.1⟩ (hc X.2.1 C.2.2.2.2.2.2.1) (cwV n C.2.2.2.2.1 (lw_V sl.1 sl.2.1 sl.2.2 mi.2.1 mi.1) rfl rfl rfl ⟨rfl, mi.2.2⟩ ⟨hR.1, hR.2.1⟩) ⟨rb_blind, hq.recv C.2.2.2.2.2.1 hM, fun U hU hW => ⟨rfl, GE.warm hW C.2.2.2.2.2.1, by rw [hU]; exact hM⟩⟩ rfl hn hla.1 hst (by show 2 * 0 + _ ≤ _; omega) hdg hR.2.2) kx kk
theorem rb_callI (C : Cx Ev X own cc nl rt tb) (mi : MIc y b L none n) (sl : SI own idx y) (hc : Ct Ev y (ws_ y b L none) rm (.ref q :: As) hh nn post) (hn : As.length = n) (hst : st = As.reverse ++ .ref q :: rest) (hW : (rest.map fun v => v.category).sum ≤ 8) (hR : RmOk R kc ks L rm) (hdg : decode cc pc = .ok (.invokespecial idx, 3))
    (kx : ∀ (E : String) (q : Nat) (h' : AH) (n' : Nat), nn ≤ n' → post (.inr (E, q)) h' n' → WaX Ev X R nl h' n' (kc + rm.cells) (ks + rm.slots) Q pc lc E q)
    (kk : ∀ (v : Option Value) (h' : AH) (n' : Nat), nn ≤ n' → post (.inl v) h' n' → Wa Ev X R nl h' n' (kc + rm.cells) (ks + rm.slots) Q (pc + 3) lc (v.toList ++ rest)) : Wa Ev X R nl hh nn kc ks Q pc lc st :=
  fun H locs ls hM hz hla => rb_cont hM hz hla (vy_runI (As := As) ⟨C.1, C.2.1, C.2.2.1, C.2.2.2.1, C.2.2.2.2.1⟩ (hc X.2.1 C.2.2.2.2.2.2.1) (cwI n C.2.2.2.2.1 (lw_meth mi.1) rfl rfl rfl (C.2.2.2.2.1 _ mi.2.1) (C.2.2.2.2.1 _ sl.1) (C.2.2.2.2.1 _ sl.2.1) sl.2.2 mi.2.2 ⟨hR.1, hR.2.1⟩) ⟨rb_blind, fun U hU hW => ⟨rfl, GE.warm hW C.2.2.2.2.2.1, by rw [hU]; exact hM⟩⟩ rfl hn hla.1 hst (by show 2 * 0 + _ ≤ _; omega) hdg hR.2.2) kx kk
theorem rb_callSN (C : Cx Ev X own cc nl rt tb) (mi : MIc y b L r n) (sl : SSN own idx y host) (hc : Ct Ev y (ws_ y b L r) rm As hh nn post) (hn : As.length = n) (hst : st = As.reverse ++ rest) (hW : (rest.map fun v => v.category).sum ≤ 8) (hR : RmOk R kc ks L rm) (hdg : decode cc pc = .ok (.invokestatic idx, 3))
    (kx : ∀ (E : String) (q : Nat) (h' : AH) (n' : Nat), nn ≤ n' → post (.inr (E, q)) h' n' → WaX Ev X R nl h' n' (kc + rm.cells) (ks + rm.slots) Q pc lc E q)
    (kk : ∀ (v : Option Value) (h' : AH) (n' : Nat), nn ≤ n' → post (.inl v) h' n' → Wa Ev X R nl h' n' (kc + rm.cells) (ks + rm.slots) Q (pc + 3) lc (v.toList ++ rest)) : Wa Ev X R nl hh nn kc ks Q pc lc st :=
  fun H locs ls hM hz hla => rb_cont hM hz hla (vy_runSN (As := As) ⟨C.1, C.2.1, C.2.2.1, C.2.2.2.1, C.2.2.2.2.1⟩ (hc X.2.1 C.2.2.2.2.2.2.1) ⟨va_cnB n C.2.2.2.2.1 (lw_meth mi.1) rfl rfl rfl (C.2.2.2.2.2.1.2.2.2.1 _ sl.1 rfl) (C.2.2.2.2.1 _ mi.2.1) mi.2.2 ⟨hR.1, hR.2.1⟩, C.2.2.2.2.1 _ sl.2, trivial⟩ ⟨rb_blind, fun U hU hW => ⟨rfl, GE.warm hW C.2.2.2.2.2.1, by rw [hU]; exact hM⟩⟩ rfl hn hla.1 hst (by show 2 * 0 + _ ≤ _; omega) hdg hR.2.2) kx kk
theorem rb_callVN (C : Cx Ev X own cc nl rt tb) (mi : MIc y b L r n) (sl : SVN own idx y host) (hq : IsC Ev hh q y.cls) (hc : Ct Ev y (ws_ y b L r) rm (.ref q :: As) hh nn post) (hn : As.length = n) (hst : st = As.reverse ++ .ref q :: rest) (hW : (rest.map fun v => v.category).sum ≤ 8) (hR : RmOk R kc ks L rm) (hdg : decode cc pc = .ok (.invokevirtual idx, 3))
    (kx : ∀ (E : String) (q : Nat) (h' : AH) (n' : Nat), nn ≤ n' → post (.inr (E, q)) h' n' → WaX Ev X R nl h' n' (kc + rm.cells) (ks + rm.slots) Q pc lc E q)
    (kk : ∀ (v : Option Value) (h' : AH) (n' : Nat), nn ≤ n' → post (.inl v) h' n' → Wa Ev X R nl h' n' (kc + rm.cells) (ks + rm.slots) Q (pc + 3) lc (v.toList ++ rest)) : Wa Ev X R nl hh nn kc ks Q pc lc st :=
  fun H locs ls hM hz hla => rb_cont hM hz hla (vy_runVN (As := As) ⟨C.1, C.2.1, C.2.2.1, C.2.2.2.1, C.2.2.2.2.1⟩ (hc X.2.1 C.2.2.2.2.2.2.1) ⟨va_cnB n C.2.2.2.2.1 (lw_meth mi.1) rfl rfl rfl (C.2.2.2.2.2.1.2.2.2.1 _ sl.1 rfl) (C.2.2.2.2.1 _ mi.2.1) mi.2.2 ⟨hR.1, hR.2.1⟩, C.2.2.2.2.1 _ sl.2.1, C.2.2.2.2.1 _ sl.2.2⟩ ⟨rb_blind, hq.recv C.2.2.2.2.2.1 hM, fun U hU hW => ⟨rfl, GE.warm hW C.2.2.2.2.2.1, by rw [hU]; exact hM⟩⟩ rfl hn hla.1 hst (by show 2 * 0 + _ ≤ _; omega) hdg hR.2.2) kx kk
theorem rb_callIN (C : Cx Ev X own cc nl rt tb) (mi : MIc y b L none n) (sl : SIN own idx y host) (hc : Ct Ev y (ws_ y b L none) rm (.ref q :: As) hh nn post) (hn : As.length = n) (hst : st = As.reverse ++ .ref q :: rest) (hW : (rest.map fun v => v.category).sum ≤ 8) (hR : RmOk R kc ks L rm) (hdg : decode cc pc = .ok (.invokespecial idx, 3))
    (kx : ∀ (E : String) (q : Nat) (h' : AH) (n' : Nat), nn ≤ n' → post (.inr (E, q)) h' n' → WaX Ev X R nl h' n' (kc + rm.cells) (ks + rm.slots) Q pc lc E q)
    (kk : ∀ (v : Option Value) (h' : AH) (n' : Nat), nn ≤ n' → post (.inl v) h' n' → Wa Ev X R nl h' n' (kc + rm.cells) (ks + rm.slots) Q (pc + 3) lc (v.toList ++ rest)) : Wa Ev X R nl hh nn kc ks Q pc lc st :=
  fun H locs ls hM hz hla => rb_cont hM hz hla (vy_runIN (As := As) ⟨C.1, C.2.1, C.2.2.1, C.2.2.2.1, C.2.2.2.2.1⟩ (hc X.2.1 C.2.2.2.2.2.2.1) ⟨va_cnB n C.2.2.2.2.1 (lw_meth mi.1) rfl rfl rfl (C.2.2.2.2.2.1.2.2.2.1 _ sl.1 rfl) (C.2.2.2.2.1 _ mi.2.1) mi.2.2 ⟨hR.1, hR.2.1⟩, sl.2.2, C.2.2.2.2.1 _ sl.2.1⟩ ⟨rb_blind, fun U hU hW => ⟨rfl, GE.warm hW C.2.2.2.2.2.1, by rw [hU]; exact hM⟩⟩ rfl hn hla.1 hst (by show 2 * 0 + _ ≤ _; omega) hdg hR.2.2) kx kk
theorem rb_callU (C : Cx Ev X own cc nl rt tb) {Cr owner : String} {x : MethodName} (mi : MIc y b L r n) (sl : SU own idx Cr owner x y) (hq : IsC Ev hh q Cr) (hc : Ct Ev y (ws_ y b L r) rm (.ref q :: As) hh nn post) (hn : As.length = n) (hst : st = As.reverse ++ .ref q :: rest) (hW : (rest.map fun v => v.category).sum ≤ 8) (hR : RmOk R kc ks L rm) (hdg : decode cc pc = .ok (.invokevirtual idx, 3))
    (kx : ∀ (E : String) (q : Nat) (h' : AH) (n' : Nat), nn ≤ n' → post (.inr (E, q)) h' n' → WaX Ev X R nl h' n' (kc + rm.cells) (ks + rm.slots) Q pc lc E q)
    (kk : ∀ (v : Option Value) (h' : AH) (n' : Nat), nn ≤ n' → post (.inl v) h' n' → Wa Ev X R nl h' n' (kc + rm.cells) (ks + rm.slots) Q (pc + 3) lc (v.toList ++ rest)) : Wa Ev X R nl hh nn kc ks Q pc lc st := by
  obtain ⟨⟨s1, s2, s3, s4⟩, rfl⟩ := sl
  have hg : GoodIn lw_all (va_wsU own idx Cr owner x ⟨owner, x.name, x.desc⟩ (ws_ ⟨owner, x.name, x.desc⟩ b L r)) := by
    refine lw_app ?_ (lw_meth mi.1)
    intro w hw
    simp only [List.mem_cons, List.not_mem_nil, or_false] at hw
    rcases hw with e | e | e | e | e
    · rw [e]; exact s1
    · rw [e]; exact s2
    · rw [e]; exact s3
    · rw [e]; exact s4
    · rw [e]; exact mi.2.1
  exact fun H locs ls hM hz hla => rb_cont hM hz hla (vy_runU (As := As) ⟨C.1, C.2.1, C.2.2.1, C.2.2.2.1, C.2.2.2.2.1⟩ (hc X.2.1 C.2.2.2.2.2.2.1) (va_cwU n C.2.2.2.2.1 hg rfl rfl rfl rfl mi.2.2 ⟨hR.1, hR.2.1⟩) ⟨rb_blind, hq.recv C.2.2.2.2.2.1 hM, fun U hU hW => ⟨rfl, GE.warm hW C.2.2.2.2.2.1, by rw [hU]; exact hM⟩⟩ rfl hn hla.1 hst (by show 2 * 0 + _ ≤ _; omega) hdg hR.2.2) kx kk
theorem rb_callSX (C : Cx Ev X own cc nl rt tb) (mi : MIw y b L r hs n) (sl : SS own idx y) (hc : Ct Ev y (wsW_ y b L r hs) rm As hh nn post) (hn : As.length = n) (hst : st = As.reverse ++ rest) (hW : (rest.map fun v => v.category).sum ≤ 8) (hR : RmOk R kc ks L rm) (hdg : decode cc pc = .ok (.invokestatic idx, 3))
    (kx : ∀ (E : String) (q : Nat) (h' : AH) (n' : Nat), nn ≤ n' → post (.inr (E, q)) h' n' → WaX Ev X R nl h' n' (kc + rm.cells) (ks + rm.slots) Q pc lc E q)
    (kk : ∀ (v : Option Value) (h' : AH) (n' : Nat), nn ≤ n' → post (.inl v) h' n' → Wa Ev X R nl h' n' (kc + rm.cells) (ks + rm.slots) Q (pc + 3) lc (v.toList ++ rest)) : Wa Ev X R nl hh nn kc ks Q pc lc st :=
  fun H locs ls hM hz hla => rb_cont hM hz hla (vy_runSX (As := As) ⟨C.1, C.2.1, C.2.2.1, C.2.2.2.1, C.2.2.2.2.1⟩ (hc X.2.1 C.2.2.2.2.2.2.1) (vy_cwSW n C.2.2.2.2.1 (lw_SW sl.1 sl.2 mi.2.1 mi.1) rfl rfl rfl mi.2.2 ⟨hR.1, hR.2.1⟩) ⟨rb_blind, fun U hU hW => ⟨rfl, GE.warm hW C.2.2.2.2.2.1, by rw [hU]; exact hM⟩⟩ rfl hn hla.1 hst (by show 2 * 0 + _ ≤ _; omega) hdg hR.2.2) kx kk
theorem rb_callVX (C : Cx Ev X own cc nl rt tb) (mi : MIw y b L r hs n) (sl : SV own idx y) (hq : IsC Ev hh q y.cls) (hc : Ct Ev y (wsW_ y b L r hs) rm (.ref q :: As) hh nn post) (hn : As.length = n) (hst : st = As.reverse ++ .ref q :: rest) (hW : (rest.map fun v => v.category).sum ≤ 8) (hR : RmOk R kc ks L rm) (hdg : decode cc pc = .ok (.invokevirtual idx, 3))
    (kx : ∀ (E : String) (q : Nat) (h' : AH) (n' : Nat), nn ≤ n' → post (.inr (E, q)) h' n' → WaX Ev X R nl h' n' (kc + rm.cells) (ks + rm.slots) Q pc lc E q)
    (kk : ∀ (v : Option Value) (h' : AH) (n' : Nat), nn ≤ n' → post (.inl v) h' n' → Wa Ev X R nl h' n' (kc + rm.cells) (ks + rm.slots) Q (pc + 3) lc (v.toList ++ rest)) : Wa Ev X R nl hh nn kc ks Q pc lc st :=
  fun H locs ls hM hz hla => rb_cont hM hz hla (vy_runVX (As := As) ⟨C.1, C.2.1, C.2.2.1, C.2.2.2.1, C.2.2.2.2.1⟩ (hc X.2.1 C.2.2.2.2.2.2.1) (vy_cwVW n C.2.2.2.2.1 (lw_VW sl.1 sl.2.1 sl.2.2 mi.2.1 mi.1) rfl rfl rfl ⟨rfl, mi.2.2⟩ ⟨hR.1, hR.2.1⟩) ⟨rb_blind, hq.recv C.2.2.2.2.2.1 hM, fun U hU hW => ⟨rfl, GE.warm hW C.2.2.2.2.2.1, by rw [hU]; exact hM⟩⟩ rfl hn hla.1 hst (by show 2 * 0 + _ ≤ _; omega) hdg hR.2.2) kx kk
end RC
/-- a contract's end: the answer v, the heap as it was -/
def pV (v : Option Value) (h : AH) (n : Nat) : rb_R → AH → Nat → Prop := fun r h' n' => r = .inl v ∧ h' = h ∧ n' = n
theorem rb_kV {v : Option Value} {h : AH} {n : Nat} {P : Option Value → AH → Nat → Prop} (k : P v h n) : ∀ (v' : Option Value) (h' : AH) (n' : Nat), nn ≤ n' → pV v h n (.inl v') h' n' → P v' h' n' := by
  rintro v' h' n' - ⟨e, rfl, rfl⟩
  cases e
  exact k
theorem rb_xV {v : Option Value} {h : AH} {n : Nat} {P : String → Nat → AH → Nat → Prop} : ∀ (E : String) (q : Nat) (h' : AH) (n' : Nat), nn ≤ n' → pV v h n (.inr (E, q)) h' n' → P E q h' n' := by
  rintro E q h' n' - ⟨e, -, -⟩
  cases e
end RB
