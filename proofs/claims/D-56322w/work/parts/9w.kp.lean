set_option maxRecDepth 100000
set_option linter.unusedVariables false
/-! WHAT A CHANGE LEAVES ALONE: objects of the class 29 -/
def Kp (h : AH) (n : Nat) (h' : AH) (n' : Nat) : Prop := (∀ a, n ≤ a → h a = none) → n ≤ n' ∧ (∀ a, n' ≤ a → h' a = none) ∧ ∀ a fs, h a = some (.inr (29, fs)) → h' a = some (.inr (29, fs))
def KP {α : Type} (x : Option (α × AH × Nat × Nat)) (h : AH) (n : Nat) : Prop := ∀ t, x = some t → Kp h n t.2.1 (n + t.2.2.1)
section KPS
variable {α β : Type} {Ev : rb_E} {h h' h1 : AH} {n n1 n2 : Nat}
theorem Kp.rf (hn : n ≤ n1) : Kp h n h n1 := fun z => ⟨hn, fun a ha => z a (by omega), fun _ _ e => e⟩
theorem Kp.tr {h2 : AH} (k1 : Kp h n h1 n1) (k2 : Kp h1 n1 h2 n2) : Kp h n h2 n2 := fun z => by
  obtain ⟨a1, a2, a3⟩ := k1 z
  obtain ⟨b1, b2, b3⟩ := k2 a2
  exact ⟨by omega, b2, fun a fs e => b3 a fs (a3 a fs e)⟩
theorem kp_none : KP (none : Option (α × AH × Nat × Nat)) h n := fun t e => by cases e
theorem kp_some {r : α} {k s : Nat} : KP (some (r, h, k, s)) h n := fun t e => by cases e; exact Kp.rf (Nat.le_add_right _ _)
theorem kp_ite {c : Prop} {d : Decidable c} {a b : Option (α × AH × Nat × Nat)} (g1 : KP a h n) (g2 : KP b h n) : KP (@ite _ c d a b) h n := by
  by_cases hc : c
  · rw [if_pos hc]; exact g1
  · rw [if_neg hc]; exact g2
theorem kp_bd {x : Option β} {f : β → Option (α × AH × Nat × Nat)} (g : ∀ v, KP (f v) h n) : KP (x.bind f) h n := by
  cases x with
  | none => exact kp_none
  | some v => exact g v
theorem kp_lt {v : β} {f : β → Option (α × AH × Nat × Nat)} (g : KP (f v) h n) : KP (rb_lt v f) h n := g
theorem kp_w {x : Option AH} {f : AH → Option (α × AH × Nat × Nat)} (w : ∀ h1, x = some h1 → Kp h n h1 n) (g : ∀ h1, KP (f h1) h1 n) : KP (x.bind f) h n := by
  cases x with
  | none => exact kp_none
  | some v => exact fun t e => (w v rfl).tr (g v t e)
theorem kp_up {q : Nat} {e e' : va_E} (h1 : h q = some e) (h2 : ∀ fs, e ≠ .inr (29, fs)) : Kp h n (va_up h q (some e')) n := fun z => by
  have hq : q < n := by
    rcases Nat.lt_or_ge q n with c | c
    · exact c
    · rw [z q c] at h1; cases h1
  refine ⟨Nat.le_refl _, fun a ha => ?_, fun a fs ea => ?_⟩
  · rw [va_up_ne _ _ (by omega)]; exact z a ha
  · rw [va_up_ne _ _ (fun hh => by
      rw [hh, h1] at ea
      exact h2 fs (Option.some.inj ea))]
    exact ea
theorem kp_put {q c k : Nat} {v : Value} {f : AH → Option (α × AH × Nat × Nat)} (hc : c ≠ 29) (g : ∀ h1, KP (f h1) h1 n) : KP ((hp_put h q c k v).bind f) h n := by
  refine kp_w (fun h1 e => ?_) g
  unfold hp_put at e
  split at e
  · next c' fs he =>
    split at e
    · next hh =>
      cases e
      refine kp_up he (fun fs' e' => ?_)
      cases e'
      omega
    · cases e
  · cases e
theorem kp_is {q : Nat} {i x : Int32} {f : AH → Option (α × AH × Nat × Nat)} (g : ∀ h1, KP (f h1) h1 n) : KP ((hp_is Ev h q i x).bind f) h n := by
  refine kp_w (fun h1 e => ?_) g
  unfold hp_is at e
  split at e
  · next he =>
    split at e
    · cases e
      exact kp_up he (fun fs' e' => by cases e')
    · cases e
  · cases e
theorem kp_bs {q : Nat} {i x : Int32} {f : AH → Option (α × AH × Nat × Nat)} (g : ∀ h1, KP (f h1) h1 n) : KP ((hp_bs Ev h q i x).bind f) h n := by
  refine kp_w (fun h1 e => ?_) g
  unfold hp_bs at e
  split at e
  · next he =>
    split at e
    · cases e
      exact kp_up he (fun fs' e' => by cases e')
    · cases e
  · cases e
theorem kp_zs {q : Nat} {i x : Int32} {f : AH → Option (α × AH × Nat × Nat)} (g : ∀ h1, KP (f h1) h1 n) : KP ((hp_zs Ev h q i x).bind f) h n := by
  refine kp_w (fun h1 e => ?_) g
  unfold hp_zs at e
  split at e
  · next he =>
    split at e
    · cases e
      exact kp_up he (fun fs' e' => by cases e')
    · cases e
  · cases e
theorem kp_as {t q : Nat} {i : Int32} {x : Option Nat} {f : AH → Option (α × AH × Nat × Nat)} (g : ∀ h1, KP (f h1) h1 n) : KP ((hp_as Ev h t q i x).bind f) h n := by
  refine kp_w (fun h1 e => ?_) g
  unfold hp_as at e
  split at e
  · next he =>
    split at e
    · cases e
      exact kp_up he (fun fs' e' => by cases e')
    · cases e
  · cases e
theorem kp_cpi {t : Nat} {ty : FieldType} {src : Nat} {sp : Int32} {dst : Nat} {dp l : Int32} {f : AH → Option (α × AH × Nat × Nat)} (g : ∀ h1, KP (f h1) h1 n) : KP ((hp_cpi Ev h t ty src sp dst dp l).bind f) h n := by
  refine kp_w (fun h1 e => ?_) g
  unfold hp_cpi at e
  split at e
  · next he =>
    split at e
    · cases e
      exact kp_up he (fun fs' e' => by cases e')
    · cases e
  · cases e
theorem kp_ad {k s : Nat} {x : Option (α × AH × Nat × Nat)} (g : KP x h1 (n + k)) (w : Kp h n h1 (n + k)) : KP (ad k s x) h n := fun t e => by
  unfold ad at e
  cases x with
  | none => cases e
  | some y =>
    cases e
    have := w.tr (g y rfl)
    simpa only [Nat.add_assoc] using this
theorem kp_new {e : va_E} {s : Nat} {f : AH → Option (α × AH × Nat × Nat)} (g : ∀ h1, KP (f h1) h1 (n + 1)) : KP (ad 1 s (rb_lt (va_up h n (some e)) f)) h n := by
  refine kp_ad (h1 := va_up h n (some e)) (g _) (fun z => ⟨by omega, fun a ha => ?_, fun a fs ea => ?_⟩)
  · rw [va_up_ne _ _ (by omega)]; exact z a (by omega)
  · rw [va_up_ne _ _ (fun hh => by rw [hh, z n (Nat.le_refl n)] at ea; cases ea)]
    exact ea
theorem kp_call {γ : Type} {x : Option (γ × AH × Nat × Nat)} {f : γ × AH × Nat × Nat → Option (α × AH × Nat × Nat)} (k : KP x h n) (g : ∀ r h1 k s, ∃ X, f (r, h1, k, s) = ad k s X ∧ KP X h1 (n + k)) : KP (x.bind f) h n := by
  cases x with
  | none => exact kp_none
  | some y =>
    obtain ⟨r, h1, k1, s1⟩ := y
    obtain ⟨X, e, hX⟩ := g r h1 k1 s1
    show KP (f (r, h1, k1, s1)) h n
    rw [e]
    exact kp_ad hX (k _ rfl)
theorem kp_cln {t q : Nat} {y : AH → Option (α × AH × Nat × Nat)} {f : AH → Nat → Option (α × AH × Nat × Nat)} (g : ∀ h1, KP (y h1) h1 (n + 1)) (hf : ∀ h1 l, f h1 l = ad 1 l (y h1)) : KP ((hp_cln Ev h n t q).bind fun h_3 => ((hp_len Ev h q t).bind fun v_4 => f h_3 v_4)) h n := by
  unfold hp_cln
  split
  · split
    · simp only [Option.bind_some]
      refine kp_bd fun l => ?_
      rw [hf]
      refine kp_ad (g _) (fun z => ⟨by omega, fun a ha => ?_, fun a fs ea => ?_⟩)
      · rw [va_up_ne _ _ (by omega)]; exact z a (by omega)
      · rw [va_up_ne _ _ (fun hh => by rw [hh, z n (Nat.le_refl n)] at ea; cases ea)]
        exact ea
    · exact kp_none
  · exact kp_none
theorem kp_J9_copyOf (Ev : rb_E) (h : AH) (n : Nat) (x0 : Nat) (x1 : Int32) : KP (f_J9_copyOf Ev h n x0 x1) h n := by
  unfold f_J9_copyOf
  (repeat (first | (with_reducible exact kp_none) | (with_reducible exact kp_some) | ((with_reducible refine kp_new ?_); intro _) | ((with_reducible refine kp_put (by decide) ?_); intro _) | ((with_reducible refine kp_cln ?_ (hf := fun _ _ => rfl)); intro _) | ((with_reducible refine kp_cpi ?_); intro _) | (with_reducible refine kp_ite ?_ ?_) | ((with_reducible refine kp_bd ?_); intro _) | split))
theorem kp_J0_ensureCapacityInternal (Ev : rb_E) (h : AH) (n : Nat) (o : Nat) (x1 : Int32) : KP (f_J0_ensureCapacityInternal Ev h n o x1) h n := by
  unfold f_J0_ensureCapacityInternal
  (repeat (first | (with_reducible exact kp_none) | (with_reducible exact kp_some) | ((with_reducible refine kp_new ?_); intro _) | ((with_reducible refine kp_put (by decide) ?_); intro _) | (with_reducible exact kp_J9_copyOf _ _ _ _ _) | ((with_reducible refine kp_call (kp_J9_copyOf _ _ _ _ _) ?_); intro _ _ _ _; refine ⟨_, rfl, ?_⟩) | (with_reducible refine kp_ite ?_ ?_) | ((with_reducible refine kp_bd ?_); intro _) | split))
theorem kp_J3_putChar (Ev : rb_E) (h : AH) (n : Nat) (x0 : Nat) (x1 : Int32) (x2 : Int32) : KP (f_J3_putChar Ev h n x0 x1 x2) h n := by
  unfold f_J3_putChar
  (repeat (first | (with_reducible exact kp_none) | (with_reducible exact kp_some) | ((with_reducible refine kp_new ?_); intro _) | ((with_reducible refine kp_put (by decide) ?_); intro _) | ((with_reducible refine kp_bs ?_); intro _) | (with_reducible refine kp_ite ?_ ?_) | ((with_reducible refine kp_bd ?_); intro _) | split))
theorem kp_J3_newBytesFor (Ev : rb_E) (h : AH) (n : Nat) (x0 : Int32) : KP (f_J3_newBytesFor Ev h n x0) h n := by
  unfold f_J3_newBytesFor
  (repeat (first | (with_reducible exact kp_none) | (with_reducible exact kp_some) | ((with_reducible refine kp_new ?_); intro _) | ((with_reducible refine kp_put (by decide) ?_); intro _) | (with_reducible refine kp_ite ?_ ?_) | ((with_reducible refine kp_bd ?_); intro _) | split))
theorem kp_J3_inflate_l10_4 (Ev : rb_E) (x0 : Nat) (x2 : Nat) (x4 : Int32) : ∀ (y0 : Nat) (y1 : Int32) (y2 : Int32) (y3 : Int32) (y4 : AH) (y5 : Nat), KP (f_J3_inflate_l10_4 Ev x0 x2 x4 y0 y1 y2 y3 y4 y5) y4 y5 := by
  intro y0
  induction y0 with
  | zero => intros; unfold f_J3_inflate_l10_4; exact kp_none
  | succ k ih =>
    intro y1 y2 y3 y4 y5
    unfold f_J3_inflate_l10_4
    (repeat (first | (with_reducible exact kp_none) | (with_reducible exact kp_some) | ((with_reducible refine kp_new ?_); intro _) | ((with_reducible refine kp_put (by decide) ?_); intro _) | (with_reducible exact ih _ _ _ _ _) | ((with_reducible refine kp_call (ih _ _ _ _ _) ?_); intro _ _ _ _; refine ⟨_, rfl, ?_⟩) | (with_reducible exact kp_J3_putChar _ _ _ _ _ _) | ((with_reducible refine kp_call (kp_J3_putChar _ _ _ _ _ _) ?_); intro _ _ _ _; refine ⟨_, rfl, ?_⟩) | (with_reducible refine kp_ite ?_ ?_) | ((with_reducible refine kp_bd ?_); intro _) | split))
theorem kp_J3_inflate (Ev : rb_E) (h : AH) (n : Nat) (x0 : Nat) (x1 : Int32) (x2 : Nat) (x3 : Int32) (x4 : Int32) : KP (f_J3_inflate Ev h n x0 x1 x2 x3 x4) h n := by
  unfold f_J3_inflate
  (repeat (first | (with_reducible exact kp_none) | (with_reducible exact kp_some) | ((with_reducible refine kp_new ?_); intro _) | ((with_reducible refine kp_put (by decide) ?_); intro _) | (with_reducible exact kp_J3_inflate_l10_4 _ _ _ _ _ _ _ _ _ _) | ((with_reducible refine kp_call (kp_J3_inflate_l10_4 _ _ _ _ _ _ _ _ _ _) ?_); intro _ _ _ _; refine ⟨_, rfl, ?_⟩) | (with_reducible refine kp_ite ?_ ?_) | ((with_reducible refine kp_bd ?_); intro _) | split))
theorem kp_J11_inflate (Ev : rb_E) (h : AH) (n : Nat) (x0 : Nat) (x1 : Int32) (x2 : Nat) (x3 : Int32) (x4 : Int32) : KP (f_J11_inflate Ev h n x0 x1 x2 x3 x4) h n := by
  unfold f_J11_inflate
  (repeat (first | (with_reducible exact kp_none) | (with_reducible exact kp_some) | ((with_reducible refine kp_new ?_); intro _) | ((with_reducible refine kp_put (by decide) ?_); intro _) | (with_reducible exact kp_J3_inflate _ _ _ _ _ _ _ _) | ((with_reducible refine kp_call (kp_J3_inflate _ _ _ _ _ _ _ _) ?_); intro _ _ _ _; refine ⟨_, rfl, ?_⟩) | (with_reducible refine kp_ite ?_ ?_) | ((with_reducible refine kp_bd ?_); intro _) | split))
theorem kp_J0_inflate (Ev : rb_E) (h : AH) (n : Nat) (o : Nat) : KP (f_J0_inflate Ev h n o) h n := by
  unfold f_J0_inflate
  (repeat (first | (with_reducible exact kp_none) | (with_reducible exact kp_some) | ((with_reducible refine kp_new ?_); intro _) | ((with_reducible refine kp_put (by decide) ?_); intro _) | (with_reducible exact kp_J3_newBytesFor _ _ _ _) | ((with_reducible refine kp_call (kp_J3_newBytesFor _ _ _ _) ?_); intro _ _ _ _; refine ⟨_, rfl, ?_⟩) | (with_reducible exact kp_J11_inflate _ _ _ _ _ _ _ _) | ((with_reducible refine kp_call (kp_J11_inflate _ _ _ _ _ _ _ _) ?_); intro _ _ _ _; refine ⟨_, rfl, ?_⟩) | (with_reducible refine kp_ite ?_ ?_) | ((with_reducible refine kp_bd ?_); intro _) | split))
theorem kp_J3_putCharSB (Ev : rb_E) (h : AH) (n : Nat) (x0 : Nat) (x1 : Int32) (x2 : Int32) : KP (f_J3_putCharSB Ev h n x0 x1 x2) h n := by
  unfold f_J3_putCharSB
  (repeat (first | (with_reducible exact kp_none) | (with_reducible exact kp_some) | ((with_reducible refine kp_new ?_); intro _) | ((with_reducible refine kp_put (by decide) ?_); intro _) | (with_reducible exact kp_J3_putChar _ _ _ _ _ _) | ((with_reducible refine kp_call (kp_J3_putChar _ _ _ _ _ _) ?_); intro _ _ _ _; refine ⟨_, rfl, ?_⟩) | (with_reducible refine kp_ite ?_ ?_) | ((with_reducible refine kp_bd ?_); intro _) | split))
theorem kp_J2_hashCode_j40_13 (Ev : rb_E) (o : Nat) (h : AH) (w0_j40_13 : Int32) (n9 : Nat) : KP (f_J2_hashCode_j40_13 Ev o h w0_j40_13) h n9 := by
  unfold f_J2_hashCode_j40_13
  (repeat (first | (with_reducible exact kp_none) | (with_reducible exact kp_some) | ((with_reducible refine kp_new ?_); intro _) | ((with_reducible refine kp_put (by decide) ?_); intro _) | (with_reducible refine kp_ite ?_ ?_) | ((with_reducible refine kp_bd ?_); intro _) | split))
theorem kp_J2_hashCode (Ev : rb_E) (h : AH) (n : Nat) (o : Nat) : KP (f_J2_hashCode Ev h n o) h n := by
  unfold f_J2_hashCode
  (repeat (first | (with_reducible exact kp_none) | (with_reducible exact kp_some) | ((with_reducible refine kp_new ?_); intro _) | ((with_reducible refine kp_put (by decide) ?_); intro _) | (with_reducible exact kp_J2_hashCode_j40_13 _ _ _ _ _) | ((with_reducible refine kp_call (kp_J2_hashCode_j40_13 _ _ _ _ _) ?_); intro _ _ _ _; refine ⟨_, rfl, ?_⟩) | (with_reducible refine kp_ite ?_ ?_) | ((with_reducible refine kp_bd ?_); intro _) | split))
theorem kp_X1_requireArgument (Ev : rb_E) (h : AH) (n : Nat) (x0 : Int32) : KP (f_X1_requireArgument Ev h n x0) h n := by
  unfold f_X1_requireArgument
  (repeat (first | (with_reducible exact kp_none) | (with_reducible exact kp_some) | ((with_reducible refine kp_new ?_); intro _) | ((with_reducible refine kp_put (by decide) ?_); intro _) | (with_reducible refine kp_ite ?_ ?_) | ((with_reducible refine kp_bd ?_); intro _) | split))
theorem kp_J12_init_3_X6 (Ev : rb_E) (h : AH) (n : Nat) (o : Nat) (x1 : Option Nat) (x2 : Option Nat) (x3 : Int32) (x4 : Int32) : KP (f_J12_init_3_X6 Ev h n o x1 x2 x3 x4) h n := by
  unfold f_J12_init_3_X6
  (repeat (first | (with_reducible exact kp_none) | (with_reducible exact kp_some) | ((with_reducible refine kp_new ?_); intro _) | ((with_reducible refine kp_put (by decide) ?_); intro _) | (with_reducible refine kp_ite ?_ ?_) | ((with_reducible refine kp_bd ?_); intro _) | split))
theorem kp_J13_init_3_X6 (Ev : rb_E) (h : AH) (n : Nat) (o : Nat) (x1 : Option Nat) (x2 : Option Nat) (x3 : Int32) (x4 : Int32) : KP (f_J13_init_3_X6 Ev h n o x1 x2 x3 x4) h n := by
  unfold f_J13_init_3_X6
  (repeat (first | (with_reducible exact kp_none) | (with_reducible exact kp_some) | ((with_reducible refine kp_new ?_); intro _) | ((with_reducible refine kp_put (by decide) ?_); intro _) | (with_reducible exact kp_J12_init_3_X6 _ _ _ _ _ _ _ _) | ((with_reducible refine kp_call (kp_J12_init_3_X6 _ _ _ _ _ _ _ _) ?_); intro _ _ _ _; refine ⟨_, rfl, ?_⟩) | (with_reducible refine kp_ite ?_ ?_) | ((with_reducible refine kp_bd ?_); intro _) | split))
theorem kp_X6_init_2 (Ev : rb_E) (h : AH) (n : Nat) (o : Nat) (x1 : Int32) (x2 : Int32) (x3 : Option Nat) : KP (f_X6_init_2 Ev h n o x1 x2 x3) h n := by
  unfold f_X6_init_2
  (repeat (first | (with_reducible exact kp_none) | (with_reducible exact kp_some) | ((with_reducible refine kp_new ?_); intro _) | ((with_reducible refine kp_put (by decide) ?_); intro _) | (with_reducible exact kp_J13_init_3_X6 _ _ _ _ _ _ _ _) | ((with_reducible refine kp_call (kp_J13_init_3_X6 _ _ _ _ _ _ _ _) ?_); intro _ _ _ _; refine ⟨_, rfl, ?_⟩) | (with_reducible refine kp_ite ?_ ?_) | ((with_reducible refine kp_bd ?_); intro _) | split))
theorem kp_X6_init (Ev : rb_E) (h : AH) (n : Nat) (o : Nat) (x1 : Int32) (x2 : Int32) : KP (f_X6_init Ev h n o x1 x2) h n := by
  unfold f_X6_init
  (repeat (first | (with_reducible exact kp_none) | (with_reducible exact kp_some) | ((with_reducible refine kp_new ?_); intro _) | ((with_reducible refine kp_put (by decide) ?_); intro _) | (with_reducible exact kp_X6_init_2 _ _ _ _ _ _ _) | ((with_reducible refine kp_call (kp_X6_init_2 _ _ _ _ _ _ _) ?_); intro _ _ _ _; refine ⟨_, rfl, ?_⟩) | (with_reducible refine kp_ite ?_ ?_) | ((with_reducible refine kp_bd ?_); intro _) | split))
theorem kp_X1_denyUnless (Ev : rb_E) (h : AH) (n : Nat) (x0 : Int32) (x1 : Int32) (x2 : Int32) : KP (f_X1_denyUnless Ev h n x0 x1 x2) h n := by
  unfold f_X1_denyUnless
  (repeat (first | (with_reducible exact kp_none) | (with_reducible exact kp_some) | ((with_reducible refine kp_new ?_); intro _) | ((with_reducible refine kp_put (by decide) ?_); intro _) | (with_reducible exact kp_X6_init _ _ _ _ _ _) | ((with_reducible refine kp_call (kp_X6_init _ _ _ _ _ _) ?_); intro _ _ _ _; refine ⟨_, rfl, ?_⟩) | (with_reducible refine kp_ite ?_ ?_) | ((with_reducible refine kp_bd ?_); intro _) | split))
theorem kp_J0_append_6_j56_27 (Ev : rb_E) (o : Nat) (x1 : Int32) (h_j56_27 : AH) (n_j56_27 : Nat) : KP (f_J0_append_6_j56_27 Ev o x1 h_j56_27 n_j56_27) h_j56_27 n_j56_27 := by
  unfold f_J0_append_6_j56_27
  (repeat (first | (with_reducible exact kp_none) | (with_reducible exact kp_some) | ((with_reducible refine kp_new ?_); intro _) | ((with_reducible refine kp_put (by decide) ?_); intro _) | (with_reducible exact kp_J3_putCharSB _ _ _ _ _ _) | ((with_reducible refine kp_call (kp_J3_putCharSB _ _ _ _ _ _) ?_); intro _ _ _ _; refine ⟨_, rfl, ?_⟩) | (with_reducible refine kp_ite ?_ ?_) | ((with_reducible refine kp_bd ?_); intro _) | split))
theorem kp_J0_append_6_j56_64 (Ev : rb_E) (o : Nat) (x1 : Int32) (h_j56_64 : AH) (n_j56_64 : Nat) : KP (f_J0_append_6_j56_64 Ev o x1 h_j56_64 n_j56_64) h_j56_64 n_j56_64 := by
  unfold f_J0_append_6_j56_64
  (repeat (first | (with_reducible exact kp_none) | (with_reducible exact kp_some) | ((with_reducible refine kp_new ?_); intro _) | ((with_reducible refine kp_put (by decide) ?_); intro _) | (with_reducible exact kp_J3_putCharSB _ _ _ _ _ _) | ((with_reducible refine kp_call (kp_J3_putCharSB _ _ _ _ _ _) ?_); intro _ _ _ _; refine ⟨_, rfl, ?_⟩) | (with_reducible refine kp_ite ?_ ?_) | ((with_reducible refine kp_bd ?_); intro _) | split))
theorem kp_J0_append_6 (Ev : rb_E) (h : AH) (n : Nat) (o : Nat) (x1 : Int32) : KP (f_J0_append_6 Ev h n o x1) h n := by
  unfold f_J0_append_6
  (repeat (first | (with_reducible exact kp_none) | (with_reducible exact kp_some) | ((with_reducible refine kp_new ?_); intro _) | ((with_reducible refine kp_put (by decide) ?_); intro _) | ((with_reducible refine kp_bs ?_); intro _) | (with_reducible exact kp_J0_ensureCapacityInternal _ _ _ _ _) | ((with_reducible refine kp_call (kp_J0_ensureCapacityInternal _ _ _ _ _) ?_); intro _ _ _ _; refine ⟨_, rfl, ?_⟩) | (with_reducible exact kp_J0_append_6_j56_27 _ _ _ _ _) | ((with_reducible refine kp_call (kp_J0_append_6_j56_27 _ _ _ _ _) ?_); intro _ _ _ _; refine ⟨_, rfl, ?_⟩) | (with_reducible exact kp_J0_inflate _ _ _ _) | ((with_reducible refine kp_call (kp_J0_inflate _ _ _ _) ?_); intro _ _ _ _; refine ⟨_, rfl, ?_⟩) | (with_reducible exact kp_J0_append_6_j56_64 _ _ _ _ _) | ((with_reducible refine kp_call (kp_J0_append_6_j56_64 _ _ _ _ _) ?_); intro _ _ _ _; refine ⟨_, rfl, ?_⟩) | (with_reducible refine kp_ite ?_ ?_) | ((with_reducible refine kp_bd ?_); intro _) | split))
theorem kp_J1_append_7 (Ev : rb_E) (h : AH) (n : Nat) (o : Nat) (x1 : Int32) : KP (f_J1_append_7 Ev h n o x1) h n := by
  unfold f_J1_append_7
  (repeat (first | (with_reducible exact kp_none) | (with_reducible exact kp_some) | ((with_reducible refine kp_new ?_); intro _) | ((with_reducible refine kp_put (by decide) ?_); intro _) | (with_reducible exact kp_J0_append_6 _ _ _ _ _) | ((with_reducible refine kp_call (kp_J0_append_6 _ _ _ _ _) ?_); intro _ _ _ _; refine ⟨_, rfl, ?_⟩) | (with_reducible refine kp_ite ?_ ?_) | ((with_reducible refine kp_bd ?_); intro _) | split))
theorem kp_X2_put_j80_41 (Ev : rb_E) (o : Nat) (x1 : Int32) (n : Nat) (k_7 : Nat) (h_28 : AH) (k_29 : Nat) (w0_j80_41 : Int32) : KP (f_X2_put_j80_41 Ev o x1 n k_7 h_28 k_29 w0_j80_41) h_28 ((n + k_7) + k_29) := by
  unfold f_X2_put_j80_41
  (repeat (first | (with_reducible exact kp_none) | (with_reducible exact kp_some) | ((with_reducible refine kp_new ?_); intro _) | ((with_reducible refine kp_put (by decide) ?_); intro _) | (with_reducible exact kp_X1_denyUnless _ _ _ _ _ _) | ((with_reducible refine kp_call (kp_X1_denyUnless _ _ _ _ _ _) ?_); intro _ _ _ _; refine ⟨_, rfl, ?_⟩) | (with_reducible exact kp_J1_append_7 _ _ _ _ _) | ((with_reducible refine kp_call (kp_J1_append_7 _ _ _ _ _) ?_); intro _ _ _ _; refine ⟨_, rfl, ?_⟩) | (with_reducible refine kp_ite ?_ ?_) | ((with_reducible refine kp_bd ?_); intro _) | split))
theorem kp_X2_put_j53_25 (Ev : rb_E) (o : Nat) (x1 : Int32) (n : Nat) (h_6 : AH) (k_7 : Nat) (w0_j53_25 : Int32) : KP (f_X2_put_j53_25 Ev o x1 n h_6 k_7 w0_j53_25) h_6 (n + k_7) := by
  unfold f_X2_put_j53_25
  (repeat (first | (with_reducible exact kp_none) | (with_reducible exact kp_some) | ((with_reducible refine kp_new ?_); intro _) | ((with_reducible refine kp_put (by decide) ?_); intro _) | (with_reducible exact kp_X1_denyUnless _ _ _ _ _ _) | ((with_reducible refine kp_call (kp_X1_denyUnless _ _ _ _ _ _) ?_); intro _ _ _ _; refine ⟨_, rfl, ?_⟩) | (with_reducible exact kp_X2_put_j80_41 _ _ _ _ _ _ _ _) | ((with_reducible refine kp_call (kp_X2_put_j80_41 _ _ _ _ _ _ _ _) ?_); intro _ _ _ _; refine ⟨_, rfl, ?_⟩) | (with_reducible refine kp_ite ?_ ?_) | ((with_reducible refine kp_bd ?_); intro _) | split))
theorem kp_X2_put_j33_3 (Ev : rb_E) (o : Nat) (x1 : Int32) (h : AH) (n : Nat) (w0_j33_3 : Int32) : KP (f_X2_put_j33_3 Ev o x1 h n w0_j33_3) h n := by
  unfold f_X2_put_j33_3
  (repeat (first | (with_reducible exact kp_none) | (with_reducible exact kp_some) | ((with_reducible refine kp_new ?_); intro _) | ((with_reducible refine kp_put (by decide) ?_); intro _) | (with_reducible exact kp_X1_requireArgument _ _ _ _) | ((with_reducible refine kp_call (kp_X1_requireArgument _ _ _ _) ?_); intro _ _ _ _; refine ⟨_, rfl, ?_⟩) | (with_reducible exact kp_X2_put_j53_25 _ _ _ _ _ _ _) | ((with_reducible refine kp_call (kp_X2_put_j53_25 _ _ _ _ _ _ _) ?_); intro _ _ _ _; refine ⟨_, rfl, ?_⟩) | (with_reducible refine kp_ite ?_ ?_) | ((with_reducible refine kp_bd ?_); intro _) | split))
theorem kp_X2_put (Ev : rb_E) (h : AH) (n : Nat) (o : Nat) (x1 : Int32) : KP (f_X2_put Ev h n o x1) h n := by
  unfold f_X2_put
  (repeat (first | (with_reducible exact kp_none) | (with_reducible exact kp_some) | ((with_reducible refine kp_new ?_); intro _) | ((with_reducible refine kp_put (by decide) ?_); intro _) | (with_reducible exact kp_X2_put_j33_3 _ _ _ _ _ _) | ((with_reducible refine kp_call (kp_X2_put_j33_3 _ _ _ _ _ _) ?_); intro _ _ _ _; refine ⟨_, rfl, ?_⟩) | (with_reducible refine kp_ite ?_ ?_) | ((with_reducible refine kp_bd ?_); intro _) | split))
theorem kp_X2_putAll_l2_1 (Ev : rb_E) (o : Nat) (x1 : Nat) : ∀ (y0 : Nat) (y1 : Int32) (y2 : AH) (y3 : Nat), KP (f_X2_putAll_l2_1 Ev o x1 y0 y1 y2 y3) y2 y3 := by
  intro y0
  induction y0 with
  | zero => intros; unfold f_X2_putAll_l2_1; exact kp_none
  | succ k ih =>
    intro y1 y2 y3
    unfold f_X2_putAll_l2_1
    (repeat (first | (with_reducible exact kp_none) | (with_reducible exact kp_some) | ((with_reducible refine kp_new ?_); intro _) | ((with_reducible refine kp_put (by decide) ?_); intro _) | (with_reducible exact ih _ _ _) | ((with_reducible refine kp_call (ih _ _ _) ?_); intro _ _ _ _; refine ⟨_, rfl, ?_⟩) | (with_reducible exact kp_X2_put _ _ _ _ _) | ((with_reducible refine kp_call (kp_X2_put _ _ _ _ _) ?_); intro _ _ _ _; refine ⟨_, rfl, ?_⟩) | (with_reducible refine kp_ite ?_ ?_) | ((with_reducible refine kp_bd ?_); intro _) | split))
theorem kp_X2_putAll (Ev : rb_E) (h : AH) (n : Nat) (o : Nat) (x1 : Nat) : KP (f_X2_putAll Ev h n o x1) h n := by
  unfold f_X2_putAll
  (repeat (first | (with_reducible exact kp_none) | (with_reducible exact kp_some) | ((with_reducible refine kp_new ?_); intro _) | ((with_reducible refine kp_put (by decide) ?_); intro _) | (with_reducible exact kp_X2_putAll_l2_1 _ _ _ _ _ _ _) | ((with_reducible refine kp_call (kp_X2_putAll_l2_1 _ _ _ _ _ _ _) ?_); intro _ _ _ _; refine ⟨_, rfl, ?_⟩) | (with_reducible refine kp_ite ?_ ?_) | ((with_reducible refine kp_bd ?_); intro _) | split))
theorem kp_J9_fill_l10_6 (Ev : rb_E) (x0 : Nat) (x2 : Int32) (x3 : Int32) : ∀ (y0 : Nat) (y1 : Int32) (y2 : AH) (y3 : Nat), KP (f_J9_fill_l10_6 Ev x0 x2 x3 y0 y1 y2 y3) y2 y3 := by
  intro y0
  induction y0 with
  | zero => intros; unfold f_J9_fill_l10_6; exact kp_none
  | succ k ih =>
    intro y1 y2 y3
    unfold f_J9_fill_l10_6
    (repeat (first | (with_reducible exact kp_none) | (with_reducible exact kp_some) | ((with_reducible refine kp_new ?_); intro _) | ((with_reducible refine kp_put (by decide) ?_); intro _) | ((with_reducible refine kp_bs ?_); intro _) | (with_reducible exact ih _ _ _) | ((with_reducible refine kp_call (ih _ _ _) ?_); intro _ _ _ _; refine ⟨_, rfl, ?_⟩) | (with_reducible refine kp_ite ?_ ?_) | ((with_reducible refine kp_bd ?_); intro _) | split))
theorem kp_J9_fill (Ev : rb_E) (h : AH) (n : Nat) (x0 : Nat) (x1 : Int32) (x2 : Int32) (x3 : Int32) : KP (f_J9_fill Ev h n x0 x1 x2 x3) h n := by
  unfold f_J9_fill
  (repeat (first | (with_reducible exact kp_none) | (with_reducible exact kp_some) | ((with_reducible refine kp_new ?_); intro _) | ((with_reducible refine kp_put (by decide) ?_); intro _) | (with_reducible exact kp_J9_fill_l10_6 _ _ _ _ _ _ _ _) | ((with_reducible refine kp_call (kp_J9_fill_l10_6 _ _ _ _ _ _ _ _) ?_); intro _ _ _ _; refine ⟨_, rfl, ?_⟩) | (with_reducible refine kp_ite ?_ ?_) | ((with_reducible refine kp_bd ?_); intro _) | split))
theorem kp_J3_fillNull (Ev : rb_E) (h : AH) (n : Nat) (x0 : Nat) (x1 : Int32) (x2 : Int32) : KP (f_J3_fillNull Ev h n x0 x1 x2) h n := by
  unfold f_J3_fillNull
  (repeat (first | (with_reducible exact kp_none) | (with_reducible exact kp_some) | ((with_reducible refine kp_new ?_); intro _) | ((with_reducible refine kp_put (by decide) ?_); intro _) | (with_reducible exact kp_J9_fill _ _ _ _ _ _ _) | ((with_reducible refine kp_call (kp_J9_fill _ _ _ _ _ _ _) ?_); intro _ _ _ _; refine ⟨_, rfl, ?_⟩) | (with_reducible refine kp_ite ?_ ?_) | ((with_reducible refine kp_bd ?_); intro _) | split))
theorem kp_J11_fillNull (Ev : rb_E) (h : AH) (n : Nat) (x0 : Nat) (x1 : Int32) (x2 : Int32) : KP (f_J11_fillNull Ev h n x0 x1 x2) h n := by
  unfold f_J11_fillNull
  (repeat (first | (with_reducible exact kp_none) | (with_reducible exact kp_some) | ((with_reducible refine kp_new ?_); intro _) | ((with_reducible refine kp_put (by decide) ?_); intro _) | (with_reducible exact kp_J9_fill _ _ _ _ _ _ _) | ((with_reducible refine kp_call (kp_J9_fill _ _ _ _ _ _ _) ?_); intro _ _ _ _; refine ⟨_, rfl, ?_⟩) | (with_reducible refine kp_ite ?_ ?_) | ((with_reducible refine kp_bd ?_); intro _) | split))
theorem kp_J0_setLength_j76_17 (Ev : rb_E) (o : Nat) (x1 : Int32) (h_j76_17 : AH) (n_j76_17 : Nat) : KP (f_J0_setLength_j76_17 Ev o x1 h_j76_17 n_j76_17) h_j76_17 n_j76_17 := by
  unfold f_J0_setLength_j76_17
  (repeat (first | (with_reducible exact kp_none) | (with_reducible exact kp_some) | ((with_reducible refine kp_new ?_); intro _) | ((with_reducible refine kp_put (by decide) ?_); intro _) | (with_reducible refine kp_ite ?_ ?_) | ((with_reducible refine kp_bd ?_); intro _) | split))
theorem kp_J0_setLength (Ev : rb_E) (h : AH) (n : Nat) (o : Nat) (x1 : Int32) : KP (f_J0_setLength Ev h n o x1) h n := by
  unfold f_J0_setLength
  (repeat (first | (with_reducible exact kp_none) | (with_reducible exact kp_some) | ((with_reducible refine kp_new ?_); intro _) | ((with_reducible refine kp_put (by decide) ?_); intro _) | (with_reducible exact kp_J0_ensureCapacityInternal _ _ _ _ _) | ((with_reducible refine kp_call (kp_J0_ensureCapacityInternal _ _ _ _ _) ?_); intro _ _ _ _; refine ⟨_, rfl, ?_⟩) | (with_reducible exact kp_J0_setLength_j76_17 _ _ _ _ _) | ((with_reducible refine kp_call (kp_J0_setLength_j76_17 _ _ _ _ _) ?_); intro _ _ _ _; refine ⟨_, rfl, ?_⟩) | (with_reducible exact kp_J3_fillNull _ _ _ _ _ _) | ((with_reducible refine kp_call (kp_J3_fillNull _ _ _ _ _ _) ?_); intro _ _ _ _; refine ⟨_, rfl, ?_⟩) | (with_reducible exact kp_J11_fillNull _ _ _ _ _ _) | ((with_reducible refine kp_call (kp_J11_fillNull _ _ _ _ _ _) ?_); intro _ _ _ _; refine ⟨_, rfl, ?_⟩) | (with_reducible refine kp_ite ?_ ?_) | ((with_reducible refine kp_bd ?_); intro _) | split))
theorem kp_J1_setLength (Ev : rb_E) (h : AH) (n : Nat) (o : Nat) (x1 : Int32) : KP (f_J1_setLength Ev h n o x1) h n := by
  unfold f_J1_setLength
  (repeat (first | (with_reducible exact kp_none) | (with_reducible exact kp_some) | ((with_reducible refine kp_new ?_); intro _) | ((with_reducible refine kp_put (by decide) ?_); intro _) | (with_reducible exact kp_J0_setLength _ _ _ _ _) | ((with_reducible refine kp_call (kp_J0_setLength _ _ _ _ _) ?_); intro _ _ _ _; refine ⟨_, rfl, ?_⟩) | (with_reducible refine kp_ite ?_ ?_) | ((with_reducible refine kp_bd ?_); intro _) | split))
theorem kp_X2_erase_j51_16 (Ev : rb_E) (o : Nat) (y1_l4_1 : Int32) (h_l4_1 : AH) (n_l4_1 : Nat) (w0_j51_16 : Int32) : KP (f_X2_erase_j51_16 Ev o y1_l4_1 h_l4_1 n_l4_1 w0_j51_16) h_l4_1 n_l4_1 := by
  unfold f_X2_erase_j51_16
  (repeat (first | (with_reducible exact kp_none) | (with_reducible exact kp_some) | ((with_reducible refine kp_new ?_); intro _) | ((with_reducible refine kp_put (by decide) ?_); intro _) | (with_reducible exact kp_X1_denyUnless _ _ _ _ _ _) | ((with_reducible refine kp_call (kp_X1_denyUnless _ _ _ _ _ _) ?_); intro _ _ _ _; refine ⟨_, rfl, ?_⟩) | (with_reducible exact kp_J1_setLength _ _ _ _ _) | ((with_reducible refine kp_call (kp_J1_setLength _ _ _ _ _) ?_); intro _ _ _ _; refine ⟨_, rfl, ?_⟩) | (with_reducible refine kp_ite ?_ ?_) | ((with_reducible refine kp_bd ?_); intro _) | split))
theorem kp_X2_erase_j28_71 (Ev : rb_E) (y1_l4_1 : Int32) (y2_l4_1 : Int32) (h_l4_1 : AH) (n_l4_1 : Nat) (rec_l4_1 : Int32 → Int32 → AH → Nat → Option ((Int32 ⊕ (String × Nat)) × AH × Nat × Nat)) (w0_j28_71 : Int32) (hk_rec_l4_1 : ∀ (a0 : Int32) (a1 : Int32) (a2 : AH) (a3 : Nat), KP (rec_l4_1 a0 a1 a2 a3) a2 a3) : KP (f_X2_erase_j28_71 Ev y1_l4_1 y2_l4_1 h_l4_1 n_l4_1 rec_l4_1 w0_j28_71) h_l4_1 n_l4_1 := by
  unfold f_X2_erase_j28_71
  (repeat (first | (with_reducible exact kp_none) | (with_reducible exact kp_some) | ((with_reducible refine kp_new ?_); intro _) | ((with_reducible refine kp_put (by decide) ?_); intro _) | (with_reducible exact hk_rec_l4_1 _ _ _ _) | ((with_reducible refine kp_call (hk_rec_l4_1 _ _ _ _) ?_); intro _ _ _ _; refine ⟨_, rfl, ?_⟩) | (with_reducible refine kp_ite ?_ ?_) | ((with_reducible refine kp_bd ?_); intro _) | split))
theorem kp_X2_erase_l4_1 (Ev : rb_E) (o : Nat) : ∀ (y0 : Nat) (y1 : Int32) (y2 : Int32) (y3 : AH) (y4 : Nat), KP (f_X2_erase_l4_1 Ev o y0 y1 y2 y3 y4) y3 y4 := by
  intro y0
  induction y0 with
  | zero => intros; unfold f_X2_erase_l4_1; exact kp_none
  | succ k ih =>
    intro y1 y2 y3 y4
    unfold f_X2_erase_l4_1
    (repeat (first | (with_reducible exact kp_none) | (with_reducible exact kp_some) | ((with_reducible refine kp_new ?_); intro _) | ((with_reducible refine kp_put (by decide) ?_); intro _) | (with_reducible exact ih _ _ _ _) | ((with_reducible refine kp_call (ih _ _ _ _) ?_); intro _ _ _ _; refine ⟨_, rfl, ?_⟩) | (with_reducible exact kp_X2_erase_j51_16 _ _ _ _ _ _) | ((with_reducible refine kp_call (kp_X2_erase_j51_16 _ _ _ _ _ _) ?_); intro _ _ _ _; refine ⟨_, rfl, ?_⟩) | (with_reducible exact kp_X2_erase_j28_71 _ _ _ _ _ _ _ (by first | assumption | (intros; apply kp_X7_part) | (intros; apply ih))) | ((with_reducible refine kp_call (kp_X2_erase_j28_71 _ _ _ _ _ _ _ (by first | assumption | (intros; apply kp_X7_part) | (intros; apply ih))) ?_); intro _ _ _ _; refine ⟨_, rfl, ?_⟩) | (with_reducible refine kp_ite ?_ ?_) | ((with_reducible refine kp_bd ?_); intro _) | split))
theorem kp_X2_erase (Ev : rb_E) (h : AH) (n : Nat) (o : Nat) : KP (f_X2_erase Ev h n o) h n := by
  unfold f_X2_erase
  (repeat (first | (with_reducible exact kp_none) | (with_reducible exact kp_some) | ((with_reducible refine kp_new ?_); intro _) | ((with_reducible refine kp_put (by decide) ?_); intro _) | (with_reducible exact kp_X2_erase_l4_1 _ _ _ _ _ _ _) | ((with_reducible refine kp_call (kp_X2_erase_l4_1 _ _ _ _ _ _ _) ?_); intro _ _ _ _; refine ⟨_, rfl, ?_⟩) | (with_reducible refine kp_ite ?_ ?_) | ((with_reducible refine kp_bd ?_); intro _) | split))
theorem kp_X2_clear (Ev : rb_E) (h : AH) (n : Nat) (o : Nat) : KP (f_X2_clear Ev h n o) h n := by
  unfold f_X2_clear
  (repeat (first | (with_reducible exact kp_none) | (with_reducible exact kp_some) | ((with_reducible refine kp_new ?_); intro _) | ((with_reducible refine kp_put (by decide) ?_); intro _) | (with_reducible exact kp_J1_setLength _ _ _ _ _) | ((with_reducible refine kp_call (kp_J1_setLength _ _ _ _ _) ?_); intro _ _ _ _; refine ⟨_, rfl, ?_⟩) | (with_reducible refine kp_ite ?_ ?_) | ((with_reducible refine kp_bd ?_); intro _) | split))
theorem kp_X1_requiredIn_j15_7 (Ev : rb_E) (h : AH) (n : Nat) (v_4 : Int32) (w0_j15_7 : Int32) : KP (f_X1_requiredIn_j15_7 Ev h n v_4 w0_j15_7) h n := by
  unfold f_X1_requiredIn_j15_7
  (repeat (first | (with_reducible exact kp_none) | (with_reducible exact kp_some) | ((with_reducible refine kp_new ?_); intro _) | ((with_reducible refine kp_put (by decide) ?_); intro _) | (with_reducible exact kp_X1_requireArgument _ _ _ _) | ((with_reducible refine kp_call (kp_X1_requireArgument _ _ _ _) ?_); intro _ _ _ _; refine ⟨_, rfl, ?_⟩) | (with_reducible refine kp_ite ?_ ?_) | ((with_reducible refine kp_bd ?_); intro _) | split))
theorem kp_X1_requiredIn (Ev : rb_E) (h : AH) (n : Nat) (x0 : Nat) (x1 : Int32) : KP (f_X1_requiredIn Ev h n x0 x1) h n := by
  unfold f_X1_requiredIn
  (repeat (first | (with_reducible exact kp_none) | (with_reducible exact kp_some) | ((with_reducible refine kp_new ?_); intro _) | ((with_reducible refine kp_put (by decide) ?_); intro _) | (with_reducible exact kp_X1_requiredIn_j15_7 _ _ _ _ _) | ((with_reducible refine kp_call (kp_X1_requiredIn_j15_7 _ _ _ _ _) ?_); intro _ _ _ _; refine ⟨_, rfl, ?_⟩) | (with_reducible refine kp_ite ?_ ?_) | ((with_reducible refine kp_bd ?_); intro _) | split))
theorem kp_X2_setColour (Ev : rb_E) (h : AH) (n : Nat) (o : Nat) (x1 : Int32) (x2 : Int32) : KP (f_X2_setColour Ev h n o x1 x2) h n := by
  unfold f_X2_setColour
  (repeat (first | (with_reducible exact kp_none) | (with_reducible exact kp_some) | ((with_reducible refine kp_new ?_); intro _) | ((with_reducible refine kp_put (by decide) ?_); intro _) | ((with_reducible refine kp_is ?_); intro _) | (with_reducible exact kp_X1_requiredIn _ _ _ _ _) | ((with_reducible refine kp_call (kp_X1_requiredIn _ _ _ _ _) ?_); intro _ _ _ _; refine ⟨_, rfl, ?_⟩) | (with_reducible exact kp_X1_requireArgument _ _ _ _) | ((with_reducible refine kp_call (kp_X1_requireArgument _ _ _ _) ?_); intro _ _ _ _; refine ⟨_, rfl, ?_⟩) | (with_reducible refine kp_ite ?_ ?_) | ((with_reducible refine kp_bd ?_); intro _) | split))
theorem kp_X3_values (Ev : rb_E) (h : AH) (n : Nat) : KP (f_X3_values Ev h n) h n := by
  unfold f_X3_values
  refine kp_bd fun v => ?_
  exact kp_cln (y := fun h_3 => ((hp_len Ev h_3 n 7).bind fun u_11 => (some (n, h_3, 0, 0)))) (fun h1 => kp_bd fun _ => kp_some) (fun _ _ => rfl)
theorem kp_X3_of (Ev : rb_E) (h : AH) (n : Nat) (x0 : Int32) : KP (f_X3_of Ev h n x0) h n := by
  unfold f_X3_of
  (repeat (first | (with_reducible exact kp_none) | (with_reducible exact kp_some) | ((with_reducible refine kp_new ?_); intro _) | ((with_reducible refine kp_put (by decide) ?_); intro _) | (with_reducible exact kp_X3_values _ _ _) | ((with_reducible refine kp_call (kp_X3_values _ _ _) ?_); intro _ _ _ _; refine ⟨_, rfl, ?_⟩) | (with_reducible exact kp_X1_requiredIn _ _ _ _ _) | ((with_reducible refine kp_call (kp_X1_requiredIn _ _ _ _ _) ?_); intro _ _ _ _; refine ⟨_, rfl, ?_⟩) | (with_reducible refine kp_ite ?_ ?_) | ((with_reducible refine kp_bd ?_); intro _) | split))
theorem kp_X2_setMeaning (Ev : rb_E) (h : AH) (n : Nat) (o : Nat) (x1 : Int32) (x2 : Int32) : KP (f_X2_setMeaning Ev h n o x1 x2) h n := by
  unfold f_X2_setMeaning
  (repeat (first | (with_reducible exact kp_none) | (with_reducible exact kp_some) | ((with_reducible refine kp_new ?_); intro _) | ((with_reducible refine kp_put (by decide) ?_); intro _) | ((with_reducible refine kp_as ?_); intro _) | (with_reducible exact kp_X1_requiredIn _ _ _ _ _) | ((with_reducible refine kp_call (kp_X1_requiredIn _ _ _ _ _) ?_); intro _ _ _ _; refine ⟨_, rfl, ?_⟩) | (with_reducible exact kp_X3_of _ _ _ _) | ((with_reducible refine kp_call (kp_X3_of _ _ _ _) ?_); intro _ _ _ _; refine ⟨_, rfl, ?_⟩) | (with_reducible refine kp_ite ?_ ?_) | ((with_reducible refine kp_bd ?_); intro _) | split))
theorem kp_X1_requireIndex (Ev : rb_E) (h : AH) (n : Nat) (x0 : Int32) (x1 : Int32) : KP (f_X1_requireIndex Ev h n x0 x1) h n := by
  unfold f_X1_requireIndex
  (repeat (first | (with_reducible exact kp_none) | (with_reducible exact kp_some) | ((with_reducible refine kp_new ?_); intro _) | ((with_reducible refine kp_put (by decide) ?_); intro _) | (with_reducible refine kp_ite ?_ ?_) | ((with_reducible refine kp_bd ?_); intro _) | split))
theorem kp_X2_turnStorm_j64_33 (Ev : rb_E) (y2_l40_28 : Int32) (y5_l40_28 : Int32) (h_l40_28 : AH) (n_l40_28 : Nat) (rec_l40_28 : Int32 → Int32 → AH → Nat → Option ((Int32 ⊕ (String × Nat)) × AH × Nat × Nat)) (w0_j64_33 : Int32) (hk_rec_l40_28 : ∀ (a0 : Int32) (a1 : Int32) (a2 : AH) (a3 : Nat), KP (rec_l40_28 a0 a1 a2 a3) a2 a3) : KP (f_X2_turnStorm_j64_33 Ev y2_l40_28 y5_l40_28 h_l40_28 n_l40_28 rec_l40_28 w0_j64_33) h_l40_28 n_l40_28 := by
  unfold f_X2_turnStorm_j64_33
  (repeat (first | (with_reducible exact kp_none) | (with_reducible exact kp_some) | ((with_reducible refine kp_new ?_); intro _) | ((with_reducible refine kp_put (by decide) ?_); intro _) | (with_reducible exact hk_rec_l40_28 _ _ _ _) | ((with_reducible refine kp_call (hk_rec_l40_28 _ _ _ _) ?_); intro _ _ _ _; refine ⟨_, rfl, ?_⟩) | (with_reducible refine kp_ite ?_ ?_) | ((with_reducible refine kp_bd ?_); intro _) | split))
theorem kp_X2_turnStorm_l40_28 (Ev : rb_E) (v_24 : Nat) (v_26 : Nat) : ∀ (y0 : Nat) (y1 : Int32) (y2 : Int32) (y3 : AH) (y4 : Nat), KP (f_X2_turnStorm_l40_28 Ev v_24 v_26 y0 y1 y2 y3 y4) y3 y4 := by
  intro y0
  induction y0 with
  | zero => intros; unfold f_X2_turnStorm_l40_28; exact kp_none
  | succ k ih =>
    intro y1 y2 y3 y4
    unfold f_X2_turnStorm_l40_28
    (repeat (first | (with_reducible exact kp_none) | (with_reducible exact kp_some) | ((with_reducible refine kp_new ?_); intro _) | ((with_reducible refine kp_put (by decide) ?_); intro _) | (with_reducible exact ih _ _ _ _) | ((with_reducible refine kp_call (ih _ _ _ _) ?_); intro _ _ _ _; refine ⟨_, rfl, ?_⟩) | (with_reducible exact kp_X2_turnStorm_j64_33 _ _ _ _ _ _ _ (by first | assumption | (intros; apply kp_X7_part) | (intros; apply ih))) | ((with_reducible refine kp_call (kp_X2_turnStorm_j64_33 _ _ _ _ _ _ _ (by first | assumption | (intros; apply kp_X7_part) | (intros; apply ih))) ?_); intro _ _ _ _; refine ⟨_, rfl, ?_⟩) | (with_reducible refine kp_ite ?_ ?_) | ((with_reducible refine kp_bd ?_); intro _) | split))
theorem kp_X2_turnStorm_j25_21 (Ev : rb_E) (o : Nat) (x1 : Int32) (n : Nat) (h_3 : AH) (k_4 : Nat) (v_14 : Nat) (w0_j25_21 : Int32) : KP (f_X2_turnStorm_j25_21 Ev o x1 n h_3 k_4 v_14 w0_j25_21) h_3 (n + k_4) := by
  unfold f_X2_turnStorm_j25_21
  (repeat (first | (with_reducible exact kp_none) | (with_reducible exact kp_some) | ((with_reducible refine kp_new ?_); intro _) | ((with_reducible refine kp_put (by decide) ?_); intro _) | ((with_reducible refine kp_zs ?_); intro _) | (with_reducible exact kp_X2_turnStorm_l40_28 _ _ _ _ _ _ _ _) | ((with_reducible refine kp_call (kp_X2_turnStorm_l40_28 _ _ _ _ _ _ _ _) ?_); intro _ _ _ _; refine ⟨_, rfl, ?_⟩) | (with_reducible refine kp_ite ?_ ?_) | ((with_reducible refine kp_bd ?_); intro _) | split))
theorem kp_X2_turnStorm (Ev : rb_E) (h : AH) (n : Nat) (o : Nat) (x1 : Int32) : KP (f_X2_turnStorm Ev h n o x1) h n := by
  unfold f_X2_turnStorm
  (repeat (first | (with_reducible exact kp_none) | (with_reducible exact kp_some) | ((with_reducible refine kp_new ?_); intro _) | ((with_reducible refine kp_put (by decide) ?_); intro _) | (with_reducible exact kp_X1_requireIndex _ _ _ _ _) | ((with_reducible refine kp_call (kp_X1_requireIndex _ _ _ _ _) ?_); intro _ _ _ _; refine ⟨_, rfl, ?_⟩) | (with_reducible exact kp_X2_turnStorm_j25_21 _ _ _ _ _ _ _ _) | ((with_reducible refine kp_call (kp_X2_turnStorm_j25_21 _ _ _ _ _ _ _ _) ?_); intro _ _ _ _; refine ⟨_, rfl, ?_⟩) | (with_reducible refine kp_ite ?_ ?_) | ((with_reducible refine kp_bd ?_); intro _) | split))
theorem kp_X2_requireExpression_j13_7 (Ev : rb_E) (o : Nat) (h : AH) (n : Nat) (w0_j13_7 : Int32) : KP (f_X2_requireExpression_j13_7 Ev o h n w0_j13_7) h n := by
  unfold f_X2_requireExpression_j13_7
  (repeat (first | (with_reducible exact kp_none) | (with_reducible exact kp_some) | ((with_reducible refine kp_new ?_); intro _) | ((with_reducible refine kp_put (by decide) ?_); intro _) | (with_reducible exact kp_X1_denyUnless _ _ _ _ _ _) | ((with_reducible refine kp_call (kp_X1_denyUnless _ _ _ _ _ _) ?_); intro _ _ _ _; refine ⟨_, rfl, ?_⟩) | (with_reducible refine kp_ite ?_ ?_) | ((with_reducible refine kp_bd ?_); intro _) | split))
theorem kp_X2_requireExpression (Ev : rb_E) (h : AH) (n : Nat) (o : Nat) : KP (f_X2_requireExpression Ev h n o) h n := by
  unfold f_X2_requireExpression
  (repeat (first | (with_reducible exact kp_none) | (with_reducible exact kp_some) | ((with_reducible refine kp_new ?_); intro _) | ((with_reducible refine kp_put (by decide) ?_); intro _) | (with_reducible exact kp_X2_requireExpression_j13_7 _ _ _ _ _) | ((with_reducible refine kp_call (kp_X2_requireExpression_j13_7 _ _ _ _ _) ?_); intro _ _ _ _; refine ⟨_, rfl, ?_⟩) | (with_reducible refine kp_ite ?_ ?_) | ((with_reducible refine kp_bd ?_); intro _) | split))
theorem kp_J9_copyOfRangeByte (Ev : rb_E) (h : AH) (n : Nat) (x0 : Nat) (x1 : Int32) (x2 : Int32) : KP (f_J9_copyOfRangeByte Ev h n x0 x1 x2) h n := by
  unfold f_J9_copyOfRangeByte
  (repeat (first | (with_reducible exact kp_none) | (with_reducible exact kp_some) | ((with_reducible refine kp_new ?_); intro _) | ((with_reducible refine kp_put (by decide) ?_); intro _) | ((with_reducible refine kp_cpi ?_); intro _) | (with_reducible refine kp_ite ?_ ?_) | ((with_reducible refine kp_bd ?_); intro _) | split))
theorem kp_J9_copyOfRange (Ev : rb_E) (h : AH) (n : Nat) (x0 : Nat) (x1 : Int32) (x2 : Int32) : KP (f_J9_copyOfRange Ev h n x0 x1 x2) h n := by
  unfold f_J9_copyOfRange
  (repeat (first | (with_reducible exact kp_none) | (with_reducible exact kp_some) | ((with_reducible refine kp_new ?_); intro _) | ((with_reducible refine kp_put (by decide) ?_); intro _) | ((with_reducible refine kp_cln ?_ (hf := fun _ _ => rfl)); intro _) | (with_reducible exact kp_J9_copyOfRangeByte _ _ _ _ _ _) | ((with_reducible refine kp_call (kp_J9_copyOfRangeByte _ _ _ _ _ _) ?_); intro _ _ _ _; refine ⟨_, rfl, ?_⟩) | (with_reducible refine kp_ite ?_ ?_) | ((with_reducible refine kp_bd ?_); intro _) | split))
theorem kp_J3_compress_2_l10_4 (Ev : rb_E) (x0 : Nat) (x2 : Nat) (x4 : Int32) : ∀ (y0 : Nat) (y1 : Int32) (y2 : Int32) (y3 : Int32) (y4 : AH) (y5 : Nat), KP (f_J3_compress_2_l10_4 Ev x0 x2 x4 y0 y1 y2 y3 y4 y5) y4 y5 := by
  intro y0
  induction y0 with
  | zero => intros; unfold f_J3_compress_2_l10_4; exact kp_none
  | succ k ih =>
    intro y1 y2 y3 y4 y5
    unfold f_J3_compress_2_l10_4
    (repeat (first | (with_reducible exact kp_none) | (with_reducible exact kp_some) | ((with_reducible refine kp_new ?_); intro _) | ((with_reducible refine kp_put (by decide) ?_); intro _) | ((with_reducible refine kp_bs ?_); intro _) | (with_reducible exact ih _ _ _ _ _) | ((with_reducible refine kp_call (ih _ _ _ _ _) ?_); intro _ _ _ _; refine ⟨_, rfl, ?_⟩) | (with_reducible refine kp_ite ?_ ?_) | ((with_reducible refine kp_bd ?_); intro _) | split))
theorem kp_J3_compress_2 (Ev : rb_E) (h : AH) (n : Nat) (x0 : Nat) (x1 : Int32) (x2 : Nat) (x3 : Int32) (x4 : Int32) : KP (f_J3_compress_2 Ev h n x0 x1 x2 x3 x4) h n := by
  unfold f_J3_compress_2
  (repeat (first | (with_reducible exact kp_none) | (with_reducible exact kp_some) | ((with_reducible refine kp_new ?_); intro _) | ((with_reducible refine kp_put (by decide) ?_); intro _) | (with_reducible exact kp_J3_compress_2_l10_4 _ _ _ _ _ _ _ _ _ _) | ((with_reducible refine kp_call (kp_J3_compress_2_l10_4 _ _ _ _ _ _ _ _ _ _) ?_); intro _ _ _ _; refine ⟨_, rfl, ?_⟩) | (with_reducible refine kp_ite ?_ ?_) | ((with_reducible refine kp_bd ?_); intro _) | split))
theorem kp_J3_compress (Ev : rb_E) (h : AH) (n : Nat) (x0 : Nat) (x1 : Int32) (x2 : Int32) : KP (f_J3_compress Ev h n x0 x1 x2) h n := by
  unfold f_J3_compress
  (repeat (first | (with_reducible exact kp_none) | (with_reducible exact kp_some) | ((with_reducible refine kp_new ?_); intro _) | ((with_reducible refine kp_put (by decide) ?_); intro _) | (with_reducible exact kp_J3_compress_2 _ _ _ _ _ _ _ _) | ((with_reducible refine kp_call (kp_J3_compress_2 _ _ _ _ _ _ _ _) ?_); intro _ _ _ _; refine ⟨_, rfl, ?_⟩) | (with_reducible exact kp_J9_copyOfRange _ _ _ _ _ _) | ((with_reducible refine kp_call (kp_J9_copyOfRange _ _ _ _ _ _) ?_); intro _ _ _ _; refine ⟨_, rfl, ?_⟩) | (with_reducible refine kp_ite ?_ ?_) | ((with_reducible refine kp_bd ?_); intro _) | split))
theorem kp_J2_init_2 (Ev : rb_E) (h : AH) (n : Nat) (o : Nat) (x1 : Nat) (x2 : Option Nat) : KP (f_J2_init_2 Ev h n o x1 x2) h n := by
  unfold f_J2_init_2
  (repeat (first | (with_reducible exact kp_none) | (with_reducible exact kp_some) | ((with_reducible refine kp_new ?_); intro _) | ((with_reducible refine kp_put (by decide) ?_); intro _) | (with_reducible exact kp_J9_copyOfRange _ _ _ _ _ _) | ((with_reducible refine kp_call (kp_J9_copyOfRange _ _ _ _ _ _) ?_); intro _ _ _ _; refine ⟨_, rfl, ?_⟩) | (with_reducible exact kp_J3_compress _ _ _ _ _ _) | ((with_reducible refine kp_call (kp_J3_compress _ _ _ _ _ _) ?_); intro _ _ _ _; refine ⟨_, rfl, ?_⟩) | (with_reducible refine kp_ite ?_ ?_) | ((with_reducible refine kp_bd ?_); intro _) | split))
theorem kp_J2_init (Ev : rb_E) (h : AH) (n : Nat) (o : Nat) (x1 : Nat) : KP (f_J2_init Ev h n o x1) h n := by
  unfold f_J2_init
  (repeat (first | (with_reducible exact kp_none) | (with_reducible exact kp_some) | ((with_reducible refine kp_new ?_); intro _) | ((with_reducible refine kp_put (by decide) ?_); intro _) | (with_reducible exact kp_J2_init_2 _ _ _ _ _ _) | ((with_reducible refine kp_call (kp_J2_init_2 _ _ _ _ _ _) ?_); intro _ _ _ _; refine ⟨_, rfl, ?_⟩) | (with_reducible refine kp_ite ?_ ?_) | ((with_reducible refine kp_bd ?_); intro _) | split))
theorem kp_J1_toString (Ev : rb_E) (h : AH) (n : Nat) (o : Nat) : KP (f_J1_toString Ev h n o) h n := by
  unfold f_J1_toString
  (repeat (first | (with_reducible exact kp_none) | (with_reducible exact kp_some) | ((with_reducible refine kp_new ?_); intro _) | ((with_reducible refine kp_put (by decide) ?_); intro _) | (with_reducible exact kp_J2_init _ _ _ _ _) | ((with_reducible refine kp_call (kp_J2_init _ _ _ _ _) ?_); intro _ _ _ _; refine ⟨_, rfl, ?_⟩) | (with_reducible refine kp_ite ?_ ?_) | ((with_reducible refine kp_bd ?_); intro _) | split))
theorem kp_X7_init (Ev : rb_E) (h : AH) (n : Nat) (o : Nat) (x1 : Nat) (x2 : Nat) : KP (f_X7_init Ev h n o x1 x2) h n := by
  unfold f_X7_init
  (repeat (first | (with_reducible exact kp_none) | (with_reducible exact kp_some) | ((with_reducible refine kp_new ?_); intro _) | ((with_reducible refine kp_put (by decide) ?_); intro _) | (with_reducible refine kp_ite ?_ ?_) | ((with_reducible refine kp_bd ?_); intro _) | split))
theorem kp_X7_take (Ev : rb_E) (h : AH) (n : Nat) (o : Nat) : KP (f_X7_take Ev h n o) h n := by
  unfold f_X7_take
  (repeat (first | (with_reducible exact kp_none) | (with_reducible exact kp_some) | ((with_reducible refine kp_new ?_); intro _) | ((with_reducible refine kp_put (by decide) ?_); intro _) | (with_reducible refine kp_ite ?_ ?_) | ((with_reducible refine kp_bd ?_); intro _) | split))
theorem kp_X9_init (Ev : rb_E) (h : AH) (n : Nat) (o : Nat) (x1 : Int32) (x2 : Int32) : KP (f_X9_init Ev h n o x1 x2) h n := by
  unfold f_X9_init
  (repeat (first | (with_reducible exact kp_none) | (with_reducible exact kp_some) | ((with_reducible refine kp_new ?_); intro _) | ((with_reducible refine kp_put (by decide) ?_); intro _) | (with_reducible refine kp_ite ?_ ?_) | ((with_reducible refine kp_bd ?_); intro _) | split))
theorem kp_X2_colourOf (Ev : rb_E) (h : AH) (n : Nat) (o : Nat) (x1 : Int32) : KP (f_X2_colourOf Ev h n o x1) h n := by
  unfold f_X2_colourOf
  (repeat (first | (with_reducible exact kp_none) | (with_reducible exact kp_some) | ((with_reducible refine kp_new ?_); intro _) | ((with_reducible refine kp_put (by decide) ?_); intro _) | (with_reducible exact kp_X1_requiredIn _ _ _ _ _) | ((with_reducible refine kp_call (kp_X1_requiredIn _ _ _ _ _) ?_); intro _ _ _ _; refine ⟨_, rfl, ?_⟩) | (with_reducible refine kp_ite ?_ ?_) | ((with_reducible refine kp_bd ?_); intro _) | split))
theorem kp_X8_init (Ev : rb_E) (h : AH) (n : Nat) (o : Nat) (x1 : Int32) (x2 : Nat) : KP (f_X8_init Ev h n o x1 x2) h n := by
  unfold f_X8_init
  (repeat (first | (with_reducible exact kp_none) | (with_reducible exact kp_some) | ((with_reducible refine kp_new ?_); intro _) | ((with_reducible refine kp_put (by decide) ?_); intro _) | (with_reducible refine kp_ite ?_ ?_) | ((with_reducible refine kp_bd ?_); intro _) | split))
theorem kp_X7_core (Ev : rb_E) (open_ : AH → Nat → Nat → Int32 → Option (Nat × AH × Nat × Nat)) (h : AH) (n : Nat) (o : Nat) (hk_open_ : ∀ (a0 : AH) (a1 : Nat) (a2 : Nat) (a3 : Int32), KP (open_ a0 a1 a2 a3) a0 a1) : KP (f_X7_core Ev open_ h n o) h n := by
  unfold f_X7_core
  (repeat (first | (with_reducible exact kp_none) | (with_reducible exact kp_some) | ((with_reducible refine kp_new ?_); intro _) | ((with_reducible refine kp_put (by decide) ?_); intro _) | (with_reducible exact hk_open_ _ _ _ _) | ((with_reducible refine kp_call (hk_open_ _ _ _ _) ?_); intro _ _ _ _; refine ⟨_, rfl, ?_⟩) | (with_reducible exact kp_X7_take _ _ _ _) | ((with_reducible refine kp_call (kp_X7_take _ _ _ _) ?_); intro _ _ _ _; refine ⟨_, rfl, ?_⟩) | (with_reducible exact kp_X2_colourOf _ _ _ _ _) | ((with_reducible refine kp_call (kp_X2_colourOf _ _ _ _ _) ?_); intro _ _ _ _; refine ⟨_, rfl, ?_⟩) | (with_reducible exact kp_X8_init _ _ _ _ _ _) | ((with_reducible refine kp_call (kp_X8_init _ _ _ _ _ _) ?_); intro _ _ _ _; refine ⟨_, rfl, ?_⟩) | (with_reducible exact kp_X9_init _ _ _ _ _ _) | ((with_reducible refine kp_call (kp_X9_init _ _ _ _ _ _) ?_); intro _ _ _ _; refine ⟨_, rfl, ?_⟩) | (with_reducible refine kp_ite ?_ ?_) | ((with_reducible refine kp_bd ?_); intro _) | split))
theorem kp_X7_isOperatorFrom_j36_11 (Ev : rb_E) (o : Nat) (x1 : Int32) (h : AH) (n : Nat) (w0_j36_11 : Int32) : KP (f_X7_isOperatorFrom_j36_11 Ev o x1 h n w0_j36_11) h n := by
  unfold f_X7_isOperatorFrom_j36_11
  (repeat (first | (with_reducible exact kp_none) | (with_reducible exact kp_some) | ((with_reducible refine kp_new ?_); intro _) | ((with_reducible refine kp_put (by decide) ?_); intro _) | (with_reducible exact kp_X2_colourOf _ _ _ _ _) | ((with_reducible refine kp_call (kp_X2_colourOf _ _ _ _ _) ?_); intro _ _ _ _; refine ⟨_, rfl, ?_⟩) | (with_reducible refine kp_ite ?_ ?_) | ((with_reducible refine kp_bd ?_); intro _) | split))
theorem kp_X7_isOperatorFrom (Ev : rb_E) (h : AH) (n : Nat) (o : Nat) (x1 : Int32) : KP (f_X7_isOperatorFrom Ev h n o x1) h n := by
  unfold f_X7_isOperatorFrom
  (repeat (first | (with_reducible exact kp_none) | (with_reducible exact kp_some) | ((with_reducible refine kp_new ?_); intro _) | ((with_reducible refine kp_put (by decide) ?_); intro _) | (with_reducible exact kp_X7_isOperatorFrom_j36_11 _ _ _ _ _ _) | ((with_reducible refine kp_call (kp_X7_isOperatorFrom_j36_11 _ _ _ _ _ _) ?_); intro _ _ _ _; refine ⟨_, rfl, ?_⟩) | (with_reducible refine kp_ite ?_ ?_) | ((with_reducible refine kp_bd ?_); intro _) | split))
theorem kp_X10_init (Ev : rb_E) (h : AH) (n : Nat) (o : Nat) (x1 : Int32) (x2 : Int32) (x3 : Nat) (x4 : Nat) : KP (f_X10_init Ev h n o x1 x2 x3 x4) h n := by
  unfold f_X10_init
  (repeat (first | (with_reducible exact kp_none) | (with_reducible exact kp_some) | ((with_reducible refine kp_new ?_); intro _) | ((with_reducible refine kp_put (by decide) ?_); intro _) | (with_reducible refine kp_ite ?_ ?_) | ((with_reducible refine kp_bd ?_); intro _) | split))
theorem kp_X7_part_j66_70 (Ev : rb_E) (o : Nat) (self_ : AH → Nat → Nat → Int32 → Option (Nat × AH × Nat × Nat)) (y2_l5_13 : Nat) (n_l5_13 : Nat) (rec_l5_13 : Nat → AH → Nat → Option (Nat × AH × Nat × Nat)) (k_19 : Nat) (v_27 : Int32) (k_34 : Nat) (r_32 : Int32) (k_48 : Nat) (h_62 : AH) (w0_j66_70 : Int32) (hk_self_ : ∀ (a0 : AH) (a1 : Nat) (a2 : Nat) (a3 : Int32), KP (self_ a0 a1 a2 a3) a0 a1) (hk_rec_l5_13 : ∀ (a0 : Nat) (a1 : AH) (a2 : Nat), KP (rec_l5_13 a0 a1 a2) a1 a2) : KP (f_X7_part_j66_70 Ev o self_ y2_l5_13 n_l5_13 rec_l5_13 k_19 v_27 k_34 r_32 k_48 h_62 w0_j66_70) h_62 ((((n_l5_13 + k_19) + k_34) + k_48) + 1) := by
  unfold f_X7_part_j66_70
  (repeat (first | (with_reducible exact kp_none) | (with_reducible exact kp_some) | ((with_reducible refine kp_new ?_); intro _) | ((with_reducible refine kp_put (by decide) ?_); intro _) | (with_reducible exact hk_self_ _ _ _ _) | ((with_reducible refine kp_call (hk_self_ _ _ _ _) ?_); intro _ _ _ _; refine ⟨_, rfl, ?_⟩) | (with_reducible exact hk_rec_l5_13 _ _ _) | ((with_reducible refine kp_call (hk_rec_l5_13 _ _ _) ?_); intro _ _ _ _; refine ⟨_, rfl, ?_⟩) | (with_reducible exact kp_X10_init _ _ _ _ _ _ _ _) | ((with_reducible refine kp_call (kp_X10_init _ _ _ _ _ _ _ _) ?_); intro _ _ _ _; refine ⟨_, rfl, ?_⟩) | (with_reducible refine kp_ite ?_ ?_) | ((with_reducible refine kp_bd ?_); intro _) | split))
theorem kp_X7_part_l5_13 (Ev : rb_E) (o : Nat) (x1 : Int32) (self_ : AH → Nat → Nat → Int32 → Option (Nat × AH × Nat × Nat)) (hk_self_ : ∀ (a0 : AH) (a1 : Nat) (a2 : Nat) (a3 : Int32), KP (self_ a0 a1 a2 a3) a0 a1) : ∀ (y0 : Nat) (y1 : Nat) (y2 : AH) (y3 : Nat), KP (f_X7_part_l5_13 Ev o x1 self_ y0 y1 y2 y3) y2 y3 := by
  intro y0
  induction y0 with
  | zero => intros; unfold f_X7_part_l5_13; exact kp_none
  | succ k ih =>
    intro y1 y2 y3
    unfold f_X7_part_l5_13
    (repeat (first | (with_reducible exact kp_none) | (with_reducible exact kp_some) | ((with_reducible refine kp_new ?_); intro _) | ((with_reducible refine kp_put (by decide) ?_); intro _) | (with_reducible exact ih _ _ _) | ((with_reducible refine kp_call (ih _ _ _) ?_); intro _ _ _ _; refine ⟨_, rfl, ?_⟩) | (with_reducible exact hk_self_ _ _ _ _) | ((with_reducible refine kp_call (hk_self_ _ _ _ _) ?_); intro _ _ _ _; refine ⟨_, rfl, ?_⟩) | (with_reducible exact kp_X7_isOperatorFrom _ _ _ _ _) | ((with_reducible refine kp_call (kp_X7_isOperatorFrom _ _ _ _ _) ?_); intro _ _ _ _; refine ⟨_, rfl, ?_⟩) | (with_reducible exact kp_X7_take _ _ _ _) | ((with_reducible refine kp_call (kp_X7_take _ _ _ _) ?_); intro _ _ _ _; refine ⟨_, rfl, ?_⟩) | (with_reducible exact kp_X2_colourOf _ _ _ _ _) | ((with_reducible refine kp_call (kp_X2_colourOf _ _ _ _ _) ?_); intro _ _ _ _; refine ⟨_, rfl, ?_⟩) | (with_reducible exact kp_X7_part_j66_70 _ _ _ _ _ _ _ _ _ _ _ _ _ (by first | assumption | (intros; apply kp_X7_part) | (intros; apply ih)) (by first | assumption | (intros; apply kp_X7_part) | (intros; apply ih))) | ((with_reducible refine kp_call (kp_X7_part_j66_70 _ _ _ _ _ _ _ _ _ _ _ _ _ (by first | assumption | (intros; apply kp_X7_part) | (intros; apply ih)) (by first | assumption | (intros; apply kp_X7_part) | (intros; apply ih))) ?_); intro _ _ _ _; refine ⟨_, rfl, ?_⟩) | (with_reducible refine kp_ite ?_ ?_) | ((with_reducible refine kp_bd ?_); intro _) | split))
theorem kp_X7_part (Ev : rb_E) : ∀ (y0 : Nat) (y1 : AH) (y2 : Nat) (y3 : Nat) (y4 : Int32), KP (f_X7_part Ev y0 y1 y2 y3 y4) y1 y2 := by
  intro y0
  induction y0 with
  | zero => intros; unfold f_X7_part; exact kp_none
  | succ k ih =>
    intro y1 y2 y3 y4
    unfold f_X7_part
    (repeat (first | (with_reducible exact kp_none) | (with_reducible exact kp_some) | ((with_reducible refine kp_new ?_); intro _) | ((with_reducible refine kp_put (by decide) ?_); intro _) | (with_reducible exact ih _ _ _ _) | ((with_reducible refine kp_call (ih _ _ _ _) ?_); intro _ _ _ _; refine ⟨_, rfl, ?_⟩) | (with_reducible exact kp_X7_core _ _ _ _ _ (by first | assumption | (intros; apply kp_X7_part) | (intros; apply ih))) | ((with_reducible refine kp_call (kp_X7_core _ _ _ _ _ (by first | assumption | (intros; apply kp_X7_part) | (intros; apply ih))) ?_); intro _ _ _ _; refine ⟨_, rfl, ?_⟩) | (with_reducible exact kp_X7_part_l5_13 _ _ _ _ (by first | assumption | (intros; apply kp_X7_part) | (intros; apply ih)) _ _ _ _) | ((with_reducible refine kp_call (kp_X7_part_l5_13 _ _ _ _ (by first | assumption | (intros; apply kp_X7_part) | (intros; apply ih)) _ _ _ _) ?_); intro _ _ _ _; refine ⟨_, rfl, ?_⟩) | (with_reducible refine kp_ite ?_ ?_) | ((with_reducible refine kp_bd ?_); intro _) | split))
theorem kp_X2_tree (Ev : rb_E) (h : AH) (n : Nat) (o : Nat) : KP (f_X2_tree Ev h n o) h n := by
  unfold f_X2_tree
  (repeat (first | (with_reducible exact kp_none) | (with_reducible exact kp_some) | ((with_reducible refine kp_new ?_); intro _) | ((with_reducible refine kp_put (by decide) ?_); intro _) | (with_reducible exact kp_X2_requireExpression _ _ _ _) | ((with_reducible refine kp_call (kp_X2_requireExpression _ _ _ _) ?_); intro _ _ _ _; refine ⟨_, rfl, ?_⟩) | (with_reducible exact kp_J1_toString _ _ _ _) | ((with_reducible refine kp_call (kp_J1_toString _ _ _ _) ?_); intro _ _ _ _; refine ⟨_, rfl, ?_⟩) | (with_reducible exact kp_X7_init _ _ _ _ _ _) | ((with_reducible refine kp_call (kp_X7_init _ _ _ _ _ _) ?_); intro _ _ _ _; refine ⟨_, rfl, ?_⟩) | (with_reducible exact kp_X7_part _ _ _ _ _ _) | ((with_reducible refine kp_call (kp_X7_part _ _ _ _ _ _) ?_); intro _ _ _ _; refine ⟨_, rfl, ?_⟩) | (with_reducible refine kp_ite ?_ ?_) | ((with_reducible refine kp_bd ?_); intro _) | split))
theorem kp_X2_meaningOf (Ev : rb_E) (h : AH) (n : Nat) (o : Nat) (x1 : Int32) : KP (f_X2_meaningOf Ev h n o x1) h n := by
  unfold f_X2_meaningOf
  (repeat (first | (with_reducible exact kp_none) | (with_reducible exact kp_some) | ((with_reducible refine kp_new ?_); intro _) | ((with_reducible refine kp_put (by decide) ?_); intro _) | (with_reducible exact kp_X1_requiredIn _ _ _ _ _) | ((with_reducible refine kp_call (kp_X1_requiredIn _ _ _ _ _) ?_); intro _ _ _ _; refine ⟨_, rfl, ?_⟩) | (with_reducible refine kp_ite ?_ ?_) | ((with_reducible refine kp_bd ?_); intro _) | split))
theorem kp_X2_computed (Ev : rb_E) : ∀ (y0 : Nat) (y1 : AH) (y2 : Nat) (y3 : Nat) (y4 : Nat), KP (f_X2_computed Ev y0 y1 y2 y3 y4) y1 y2 := by
  intro y0
  induction y0 with
  | zero => intros; unfold f_X2_computed; exact kp_none
  | succ k ih =>
    intro y1 y2 y3 y4
    unfold f_X2_computed
    (repeat (first | (with_reducible exact kp_none) | (with_reducible exact kp_some) | ((with_reducible refine kp_new ?_); intro _) | ((with_reducible refine kp_put (by decide) ?_); intro _) | (with_reducible exact ih _ _ _ _) | ((with_reducible refine kp_call (ih _ _ _ _) ?_); intro _ _ _ _; refine ⟨_, rfl, ?_⟩) | (with_reducible exact kp_X2_meaningOf _ _ _ _ _) | ((with_reducible refine kp_call (kp_X2_meaningOf _ _ _ _ _) ?_); intro _ _ _ _; refine ⟨_, rfl, ?_⟩) | (with_reducible refine kp_ite ?_ ?_) | ((with_reducible refine kp_bd ?_); intro _) | split))
theorem kp_X2_keep (Ev : rb_E) (h : AH) (n : Nat) (o : Nat) (x1 : Int32) : KP (f_X2_keep Ev h n o x1) h n := by
  unfold f_X2_keep
  (repeat (first | (with_reducible exact kp_none) | (with_reducible exact kp_some) | ((with_reducible refine kp_new ?_); intro _) | ((with_reducible refine kp_put (by decide) ?_); intro _) | ((with_reducible refine kp_is ?_); intro _) | (with_reducible exact kp_X1_requireArgument _ _ _ _) | ((with_reducible refine kp_call (kp_X1_requireArgument _ _ _ _) ?_); intro _ _ _ _; refine ⟨_, rfl, ?_⟩) | (with_reducible exact kp_X2_tree _ _ _ _) | ((with_reducible refine kp_call (kp_X2_tree _ _ _ _) ?_); intro _ _ _ _; refine ⟨_, rfl, ?_⟩) | (with_reducible exact kp_X2_computed _ _ _ _ _ _) | ((with_reducible refine kp_call (kp_X2_computed _ _ _ _ _ _) ?_); intro _ _ _ _; refine ⟨_, rfl, ?_⟩) | (with_reducible refine kp_ite ?_ ?_) | ((with_reducible refine kp_bd ?_); intro _) | split))
theorem kp_X5_apply_j149_15 (Ev : rb_E) (o : Nat) (x1 : Nat) (n : Nat) (h_7 : AH) (k_8 : Nat) (y3_j149_15 : Int32) : KP (f_X5_apply_j149_15 Ev o x1 n h_7 k_8 y3_j149_15) h_7 (n + k_8) := by
  unfold f_X5_apply_j149_15
  (repeat (first | (with_reducible exact kp_none) | (with_reducible exact kp_some) | ((with_reducible refine kp_new ?_); intro _) | ((with_reducible refine kp_put (by decide) ?_); intro _) | (with_reducible exact kp_X2_putAll _ _ _ _ _) | ((with_reducible refine kp_call (kp_X2_putAll _ _ _ _ _) ?_); intro _ _ _ _; refine ⟨_, rfl, ?_⟩) | (with_reducible exact kp_X2_erase _ _ _ _) | ((with_reducible refine kp_call (kp_X2_erase _ _ _ _) ?_); intro _ _ _ _; refine ⟨_, rfl, ?_⟩) | (with_reducible exact kp_X2_clear _ _ _ _) | ((with_reducible refine kp_call (kp_X2_clear _ _ _ _) ?_); intro _ _ _ _; refine ⟨_, rfl, ?_⟩) | (with_reducible exact kp_X2_setColour _ _ _ _ _ _) | ((with_reducible refine kp_call (kp_X2_setColour _ _ _ _ _ _) ?_); intro _ _ _ _; refine ⟨_, rfl, ?_⟩) | (with_reducible exact kp_X2_setMeaning _ _ _ _ _ _) | ((with_reducible refine kp_call (kp_X2_setMeaning _ _ _ _ _ _) ?_); intro _ _ _ _; refine ⟨_, rfl, ?_⟩) | (with_reducible exact kp_X2_turnStorm _ _ _ _ _) | ((with_reducible refine kp_call (kp_X2_turnStorm _ _ _ _ _) ?_); intro _ _ _ _; refine ⟨_, rfl, ?_⟩) | (with_reducible exact kp_X2_keep _ _ _ _ _) | ((with_reducible refine kp_call (kp_X2_keep _ _ _ _ _) ?_); intro _ _ _ _; refine ⟨_, rfl, ?_⟩) | (with_reducible refine kp_ite ?_ ?_) | ((with_reducible refine kp_bd ?_); intro _) | split))
theorem kp_X5_apply (Ev : rb_E) (h : AH) (n : Nat) (o : Nat) (x1 : Nat) : KP (f_X5_apply Ev h n o x1) h n := by
  unfold f_X5_apply
  (repeat (first | (with_reducible exact kp_none) | (with_reducible exact kp_some) | ((with_reducible refine kp_new ?_); intro _) | ((with_reducible refine kp_put (by decide) ?_); intro _) | (with_reducible exact kp_J2_hashCode _ _ _ _) | ((with_reducible refine kp_call (kp_J2_hashCode _ _ _ _) ?_); intro _ _ _ _; refine ⟨_, rfl, ?_⟩) | (with_reducible exact kp_X5_apply_j149_15 _ _ _ _ _ _ _) | ((with_reducible refine kp_call (kp_X5_apply_j149_15 _ _ _ _ _ _ _) ?_); intro _ _ _ _; refine ⟨_, rfl, ?_⟩) | (with_reducible refine kp_ite ?_ ?_) | ((with_reducible refine kp_bd ?_); intro _) | split))
end KPS
