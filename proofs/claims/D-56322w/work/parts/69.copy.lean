set_option maxRecDepth 100000
set_option linter.unusedVariables false
section COPY
variable {Ev : rb_E} {h h0 : AH} {n n0 q v co cap o S bv : Nat} {ml : Int32} {cs : List Nat} {z : Zs} {β : Type} {P : β → Prop}
theorem ok_cpe {t n0 n1 a b m : Nat} {src dst : Nat} {sp dp l : Int32} {y z : Nat → Option Nat} {f : AH → Option β} (o : eK Ev dst = none) (e : rd Ev h src = some (.inl (eA Ev t, n0, aQ y))) (e1 : rd Ev h dst = some (.inl (eA Ev t, n1, aQ z))) (ha : sp = nI a) (hb : dp = nI b) (hm : l = nI m) (h1 : a + m ≤ n0) (h2 : b + m ≤ n1) (hn : n0 < 2 ^ 31) (hn1 : n1 < 2 ^ 31) (hf : ∀ i, i < m → ((y (a + i)).all fun y => (hp_en Ev y).isSome) = true) (g : Ok (f (va_up h dst (some (.inl (eA Ev t, n1, aQ (va_cpy y z a b m)))))) P) : Ok ((hp_cpe Ev h t src sp dst dp l).bind f) P := by
  subst ha hb hm
  have e' := rd_own o e1
  have ca := nI_clamp (show a < 2 ^ 31 by omega)
  have cb := nI_clamp (show b < 2 ^ 31 by omega)
  have cm := nI_clamp (show m < 2 ^ 31 by omega)
  have hv : hp_cpe Ev h t src (nI a) dst (nI b) (nI m) = some (va_up h dst (some (.inl (eA Ev t, n1, aQ (va_cpy y z a b m))))) := by
    unfold hp_cpe
    rw [e, e']
    show (if (eA Ev t = eA Ev t ∧ eA Ev t = eA Ev t ∧ ¬ nI a < 0 ∧ ¬ nI b < 0 ∧ ¬ nI m < 0 ∧ (nI a).toNatClampNeg + (nI m).toNatClampNeg ≤ n0 ∧ (nI b).toNatClampNeg + (nI m).toNatClampNeg ≤ n1) ∧ (∀ i, i < (nI m).toNatClampNeg → ((y ((nI a).toNatClampNeg + i)).all fun y => (hp_en Ev y).isSome) = true) then some (va_up h dst (some (.inl (eA Ev t, n1, aQ (va_cpy y z (nI a).toNatClampNeg (nI b).toNatClampNeg (nI m).toNatClampNeg))))) else none) = _
    rw [ca, cb, cm]
    exact if_pos ⟨⟨rfl, rfl, nI_pos (by omega), nI_pos (by omega), nI_pos (by omega), h1, h2⟩, hf⟩
  rw [hv]; exact g
/-- a sheet that is being filled -/
def SFl (Ev : rb_E) (n o : Nat) (h00 h : AH) : Prop := Dm Ev n h ∧ Frm Ev o [] h00 h
theorem SFl.new {h00 : AH} {e : va_E} (s : SFl Ev n o h00 h) (hn : o ≤ n) : SFl Ev (n + 1) o h00 (va_up h n (some e)) := by
  obtain ⟨D, F⟩ := s
  exact ⟨by ((repeat (first | (with_reducible assumption) | (exact D.mono (by omega)) | (with_reducible refine Dm.up (by (first | (with_reducible assumption) | exact D.ow (by omega) | exact hO _ (by omega))) (by omega) ?_) | (refine Dm.mono (by with_reducible assumption) (by omega)))); done), Frm.up (Or.inl hn) F⟩
theorem SFl.up {h00 : AH} {a : Nat} {e : va_E} (s : SFl Ev n o h00 h) (ho : eK Ev a = none) (h1 : o ≤ a) (h2 : a < n) : SFl Ev n o h00 (va_up h a (some e)) := ⟨Dm.up ho h2 s.1, Frm.up (Or.inl h1) s.2⟩
def z_d0 : Nat → Int32 := upd (upd (upd (upd (upd (upd (upd (fun _ => 0) 0 0) 1 0) 2 2) 3 2) 4 4) 5 4) 6 3
def z_d1 (Ev : rb_E) : Nat → Option Nat := va_up (va_up (va_up (va_up (va_up (va_up (fun _ => none) 0 (some (eN Ev 0))) 1 (some (eN Ev 1))) 2 (some (eN Ev 2))) 3 (some (eN Ev 4))) 4 (some (eN Ev 3))) 5 (some (eN Ev 5))
def z_d2 : Nat → Int32 := upd (upd (upd (upd (upd (upd (upd (fun _ => 0) 0 0) 1 0) 2 0) 3 0) 4 1) 5 1) 6 1
/-- Sheet(): all that stands in a new one -/
theorem x2_init (hp : rb_pf Ev) {h00 : AH} (D : Dm Ev (o + 1) h) (F0 : Frm Ev o [] h00 h) (eo : rd Ev h o = some (.inr (1, [.null, .null, .null, .null, .null]))) (hO : ∀ a, o ≤ a → eK Ev a = none) : Ok (f_X2_init Ev h (o + 1) o) (Pm 0 0 fun _ h' k s => 6 = k ∧ 45 = s ∧ SFl Ev (o + 7) o h00 h' ∧ SB Ev (rd Ev h') (o + 1) (o + 2) 16 0 0 [] ∧ rd Ev h' o = some (.inr (1, [.ref (o + 1), .ref (o + 3), .ref (o + 4), .ref (o + 5), .ref (o + 6)])) ∧ rd Ev h' (o + 3) = some (.inl (eA Ev 0, 7, .inl z_d0)) ∧ rd Ev h' (o + 4) = some (.inl (eA Ev 7, 6, aQ (z_d1 Ev))) ∧ rd Ev h' (o + 5) = some (.inl (eA Ev 2, 7, .inl z_d2)) ∧ rd Ev h' (o + 6) = some (.inl (eA Ev 0, 5, .inl (fun _ => 0)))) := by
  unfold f_X2_init
  refine ok_sbn D fun h1 D1 F1 t1 => ?_
  dsimp only
  have hen := hp.2.2.2.1
  have e1 : rd Ev h1 o = some (.inr (1, [.null, .null, .null, .null, .null])) := F1.get (by omega) (by simp) eo
  have s1 : SFl Ev (o + 1 + 2) o h00 h1 := ⟨D1, Frm.tr F0 F1 (by omega) (by simp)⟩
  have hoo := hO o (Nat.le_refl o)
  obtain ⟨f, hm, t1a, t1b, tr⟩ := t1
  have sb : ∀ h', rd Ev h' (o + 1) = rd Ev h1 (o + 1) → rd Ev h' (o + 2) = rd Ev h1 (o + 2) → SB Ev (rd Ev h') (o + 1) (o + 2) 16 0 0 [] := fun h' w1 w2 => ⟨f, hm, w1.trans t1a, w2.trans t1b, tr⟩
  clear D F0 eo D1 F1
  refine ok_ad ?_
  refine ok_put hoo e1 (Nat.le_of_ble_eq_true rfl) ?_
  refine ok_neg (by decide) ?_
  rw [show (7 : Int32).toNatClampNeg = 7 from rfl]
  have s2 := s1.up (a := o) (e := .inr (1, [.null, .null, .null, .null, .null].set 0 (.ref (o + 1)))) hoo (by omega) (by omega)
  refine ok_ad (ok_lt ?_)
  refine ok_is (j := 0) (hO _ (by omega)) (rd_self _ _ _ _) rfl (by omega) (by omega) ?_
  rw [va_up_up]
  refine ok_is (j := 1) (hO _ (by omega)) (rd_self _ _ _ _) rfl (by omega) (by omega) ?_
  rw [va_up_up]
  refine ok_is (j := 2) (hO _ (by omega)) (rd_self _ _ _ _) rfl (by omega) (by omega) ?_
  rw [va_up_up]
  refine ok_is (j := 3) (hO _ (by omega)) (rd_self _ _ _ _) rfl (by omega) (by omega) ?_
  rw [va_up_up]
  refine ok_is (j := 4) (hO _ (by omega)) (rd_self _ _ _ _) rfl (by omega) (by omega) ?_
  rw [va_up_up]
  refine ok_is (j := 5) (hO _ (by omega)) (rd_self _ _ _ _) rfl (by omega) (by omega) ?_
  rw [va_up_up]
  refine ok_is (j := 6) (hO _ (by omega)) (rd_self _ _ _ _) rfl (by omega) (by omega) ?_
  rw [va_up_up]
  have ez : upd (upd (upd (upd (upd (upd (upd (fun _ => 0) 0 0) 1 0) 2 2) 3 2) 4 4) 5 4) 6 3 = z_d0 := rfl
  rw [ez]
  have s4 := s2.new (e := .inl (eA Ev 0, 7, .inl z_d0)) (by omega)
  have a1 := rd_ne (Ev := Ev) (q := o + 1 + 1 + 1) (e := some (.inl (eA Ev 0, 7, .inl z_d0))) (show o ≠ o + 1 + 1 + 1 by omega) (rd_self Ev h1 o (.inr (1, [.null, .null, .null, .null, .null].set 0 (.ref (o + 1)))))
  have a2 := rd_self Ev (va_up h1 o (some (.inr (1, [.null, .null, .null, .null, .null].set 0 (.ref (o + 1)))))) (o + 1 + 1 + 1) (.inl (eA Ev 0, 7, .inl z_d0))
  have a3 : rd Ev (va_up (va_up h1 o (some (.inr (1, [.null, .null, .null, .null, .null].set 0 (.ref (o + 1)))))) (o + 1 + 1 + 1) (some (.inl (eA Ev 0, 7, .inl z_d0)))) (o + 1) = rd Ev h1 (o + 1) := rd_ne (by omega) (rd_ne (by omega) rfl)
  have a4 : rd Ev (va_up (va_up h1 o (some (.inr (1, [.null, .null, .null, .null, .null].set 0 (.ref (o + 1)))))) (o + 1 + 1 + 1) (some (.inl (eA Ev 0, 7, .inl z_d0)))) (o + 2) = rd Ev h1 (o + 2) := rd_ne (by omega) (rd_ne (by omega) rfl)
  generalize va_up (va_up h1 o (some (.inr (1, [.null, .null, .null, .null, .null].set 0 (.ref (o + 1)))))) (o + 1 + 1 + 1) (some (.inl (eA Ev 0, 7, .inl z_d0))) = h2 at s4 a1 a2 a3 a4 ⊢
  refine ok_put hoo a1 (Nat.le_of_ble_eq_true rfl) ?_
  refine ok_neg (by decide) ?_
  rw [show (6 : Int32).toNatClampNeg = 6 from rfl]
  have s5 := s4.up (a := o) (e := .inr (1, ([.null, .null, .null, .null, .null].set 0 (.ref (o + 1))).set 1 (.ref (o + 1 + 1 + 1)))) hoo (by omega) (by omega)
  refine ok_ad (ok_lt ?_)
  refine ok_sp (hen 0 (by omega)) (ok_eq (hp_en_k hp (k := 0) (by omega)) ?_)
  refine ok_as (j := 0) (hO _ (by omega)) (rd_self _ _ _ _) rfl (by omega) (by omega) ?_
  rw [va_up_up]
  refine ok_sp (hen 1 (by omega)) (ok_eq (hp_en_k hp (k := 1) (by omega)) ?_)
  refine ok_as (j := 1) (hO _ (by omega)) (rd_self _ _ _ _) rfl (by omega) (by omega) ?_
  rw [va_up_up]
  refine ok_sp (hen 2 (by omega)) (ok_eq (hp_en_k hp (k := 2) (by omega)) ?_)
  refine ok_as (j := 2) (hO _ (by omega)) (rd_self _ _ _ _) rfl (by omega) (by omega) ?_
  rw [va_up_up]
  refine ok_sp (hen 4 (by omega)) (ok_eq (hp_en_k hp (k := 4) (by omega)) ?_)
  refine ok_as (j := 3) (hO _ (by omega)) (rd_self _ _ _ _) rfl (by omega) (by omega) ?_
  rw [va_up_up]
  refine ok_sp (hen 3 (by omega)) (ok_eq (hp_en_k hp (k := 3) (by omega)) ?_)
  refine ok_as (j := 4) (hO _ (by omega)) (rd_self _ _ _ _) rfl (by omega) (by omega) ?_
  rw [va_up_up]
  refine ok_sp (hen 5 (by omega)) (ok_eq (hp_en_k hp (k := 5) (by omega)) ?_)
  refine ok_as (j := 5) (hO _ (by omega)) (rd_self _ _ _ _) rfl (by omega) (by omega) ?_
  rw [va_up_up]
  have ez2 : va_up (va_up (va_up (va_up (va_up (va_up (fun _ => none) 0 (some (eN Ev 0))) 1 (some (eN Ev 1))) 2 (some (eN Ev 2))) 3 (some (eN Ev 4))) 4 (some (eN Ev 3))) 5 (some (eN Ev 5)) = z_d1 Ev := rfl
  rw [ez2]
  have s6 := s5.new (e := .inl (eA Ev 7, 6, aQ (z_d1 Ev))) (by omega)
  have b1 := rd_ne (Ev := Ev) (q := o + 1 + 1 + 1 + 1) (e := some (.inl (eA Ev 7, 6, aQ (z_d1 Ev)))) (show o ≠ o + 1 + 1 + 1 + 1 by omega) (rd_self Ev h2 o (.inr (1, ([.null, .null, .null, .null, .null].set 0 (.ref (o + 1))).set 1 (.ref (o + 1 + 1 + 1)))))
  have b2 := rd_ne (Ev := Ev) (q := o + 1 + 1 + 1 + 1) (e := some (.inl (eA Ev 7, 6, aQ (z_d1 Ev)))) (show o + 1 + 1 + 1 ≠ o + 1 + 1 + 1 + 1 by omega) (rd_ne (q := o) (e := some (.inr (1, ([.null, .null, .null, .null, .null].set 0 (.ref (o + 1))).set 1 (.ref (o + 1 + 1 + 1))))) (by omega) a2)
  have b3 := rd_ne (Ev := Ev) (q := o + 1 + 1 + 1 + 1) (e := some (.inl (eA Ev 7, 6, aQ (z_d1 Ev)))) (show o + 1 ≠ o + 1 + 1 + 1 + 1 by omega) (rd_ne (q := o) (e := some (.inr (1, ([.null, .null, .null, .null, .null].set 0 (.ref (o + 1))).set 1 (.ref (o + 1 + 1 + 1))))) (by omega) a3)
  have b4 := rd_ne (Ev := Ev) (q := o + 1 + 1 + 1 + 1) (e := some (.inl (eA Ev 7, 6, aQ (z_d1 Ev)))) (show o + 2 ≠ o + 1 + 1 + 1 + 1 by omega) (rd_ne (q := o) (e := some (.inr (1, ([.null, .null, .null, .null, .null].set 0 (.ref (o + 1))).set 1 (.ref (o + 1 + 1 + 1))))) (by omega) a4)
  have b5 := rd_self Ev (va_up h2 o (some (.inr (1, ([.null, .null, .null, .null, .null].set 0 (.ref (o + 1))).set 1 (.ref (o + 1 + 1 + 1)))))) (o + 1 + 1 + 1 + 1) (.inl (eA Ev 7, 6, aQ (z_d1 Ev)))
  generalize va_up (va_up h2 o (some (.inr (1, ([.null, .null, .null, .null, .null].set 0 (.ref (o + 1))).set 1 (.ref (o + 1 + 1 + 1)))))) (o + 1 + 1 + 1 + 1) (some (.inl (eA Ev 7, 6, aQ (z_d1 Ev)))) = h3 at s6 b1 b2 b3 b4 b5 ⊢
  clear a1 a2 a3 a4 s4 s5 s2
  refine ok_put hoo b1 (Nat.le_of_ble_eq_true rfl) ?_
  refine ok_neg (by decide) ?_
  refine ok_ad (ok_lt ?_)
  refine ok_zs (j := 0) (z := 0) (hO _ (by omega)) (rd_self _ _ _ _) rfl (by omega) (by omega) (by decide +kernel) ?_
  rw [va_up_up]
  refine ok_zs (j := 1) (z := 0) (hO _ (by omega)) (rd_self _ _ _ _) rfl (by omega) (by omega) (by decide +kernel) ?_
  rw [va_up_up]
  refine ok_zs (j := 2) (z := 0) (hO _ (by omega)) (rd_self _ _ _ _) rfl (by omega) (by omega) (by decide +kernel) ?_
  rw [va_up_up]
  refine ok_zs (j := 3) (z := 0) (hO _ (by omega)) (rd_self _ _ _ _) rfl (by omega) (by omega) (by decide +kernel) ?_
  rw [va_up_up]
  refine ok_zs (j := 4) (z := 1) (hO _ (by omega)) (rd_self _ _ _ _) rfl (by omega) (by omega) (by decide +kernel) ?_
  rw [va_up_up]
  refine ok_zs (j := 5) (z := 1) (hO _ (by omega)) (rd_self _ _ _ _) rfl (by omega) (by omega) (by decide +kernel) ?_
  rw [va_up_up]
  refine ok_zs (j := 6) (z := 1) (hO _ (by omega)) (rd_self _ _ _ _) rfl (by omega) (by omega) (by decide +kernel) ?_
  rw [va_up_up]
  have ez3 : upd (upd (upd (upd (upd (upd (upd (fun _ => 0) 0 0) 1 0) 2 0) 3 0) 4 1) 5 1) 6 1 = z_d2 := rfl
  rw [ez3]
  generalize hX : (Sum.inr (1, (([Value.null, .null, .null, .null, .null].set 0 (.ref (o + 1))).set 1 (.ref (o + 1 + 1 + 1))).set 2 (.ref (o + 1 + 1 + 1 + 1))) : va_E) = X
  generalize hY : (Sum.inl (eA Ev 2, 7, .inl z_d2) : va_E) = Y
  have s7 := s6.up (a := o) (e := X) hoo (by omega) (by omega)
  have s8 := s7.new (e := Y) (by omega)
  have c1 := rd_ne (Ev := Ev) (q := o + 1 + 1 + 1 + 1 + 1) (e := some Y) (show o ≠ o + 1 + 1 + 1 + 1 + 1 by omega) (rd_self Ev h3 o X)
  have c2 := rd_ne (Ev := Ev) (q := o + 1 + 1 + 1 + 1 + 1) (e := some Y) (show o + 1 + 1 + 1 ≠ o + 1 + 1 + 1 + 1 + 1 by omega) (rd_ne (q := o) (e := some X) (by omega) b2)
  have c3 := rd_ne (Ev := Ev) (q := o + 1 + 1 + 1 + 1 + 1) (e := some Y) (show o + 1 ≠ o + 1 + 1 + 1 + 1 + 1 by omega) (rd_ne (q := o) (e := some X) (by omega) b3)
  have c4 := rd_ne (Ev := Ev) (q := o + 1 + 1 + 1 + 1 + 1) (e := some Y) (show o + 2 ≠ o + 1 + 1 + 1 + 1 + 1 by omega) (rd_ne (q := o) (e := some X) (by omega) b4)
  have c5 := rd_ne (Ev := Ev) (q := o + 1 + 1 + 1 + 1 + 1) (e := some Y) (show o + 1 + 1 + 1 + 1 ≠ o + 1 + 1 + 1 + 1 + 1 by omega) (rd_ne (q := o) (e := some X) (by omega) b5)
  have c6 := rd_self Ev (va_up h3 o (some X)) (o + 1 + 1 + 1 + 1 + 1) Y
  generalize va_up (va_up h3 o (some X)) (o + 1 + 1 + 1 + 1 + 1) (some Y) = h4 at s8 c1 c2 c3 c4 c5 c6 ⊢
  subst hX hY
  clear b1 b2 b3 b4 b5 s6 s7
  refine ok_put hoo c1 (Nat.le_of_ble_eq_true rfl) ?_
  refine ok_neg (by decide) ?_
  rw [show (5 : Int32).toNatClampNeg = 5 from rfl]
  refine ok_ad (ok_lt ?_)
  refine ok_put hoo (rd_ne (by omega) (rd_self _ _ _ _)) (Nat.le_of_ble_eq_true rfl) ?_
  generalize hX : (Sum.inr (1, ((([Value.null, .null, .null, .null, .null].set 0 (.ref (o + 1))).set 1 (.ref (o + 1 + 1 + 1))).set 2 (.ref (o + 1 + 1 + 1 + 1))).set 3 (.ref (o + 1 + 1 + 1 + 1 + 1))) : va_E) = X
  generalize hY : (Sum.inl (eA Ev 0, 5, .inl (fun _ => 0)) : va_E) = Y
  generalize hZ : (Sum.inr (1, (((([Value.null, .null, .null, .null, .null].set 0 (.ref (o + 1))).set 1 (.ref (o + 1 + 1 + 1))).set 2 (.ref (o + 1 + 1 + 1 + 1))).set 3 (.ref (o + 1 + 1 + 1 + 1 + 1))).set 4 (.ref (o + 1 + 1 + 1 + 1 + 1 + 1))) : va_E) = Z
  have s9 : SFl Ev (o + 7) o h00 (va_up (va_up (va_up h4 o (some X)) (o + 1 + 1 + 1 + 1 + 1 + 1) (some Y)) o (some Z)) := ((s8.up hoo (by omega) (by omega)).new (by omega)).up hoo (by omega) (by omega)
  have d1 := rd_self Ev (va_up (va_up h4 o (some X)) (o + 1 + 1 + 1 + 1 + 1 + 1) (some Y)) o Z
  have d2 : rd Ev (va_up (va_up (va_up h4 o (some X)) (o + 1 + 1 + 1 + 1 + 1 + 1) (some Y)) o (some Z)) (o + 3) = some (.inl (eA Ev 0, 7, .inl z_d0)) := rd_ne (by omega) (rd_ne (by omega) (rd_ne (by omega) c2))
  have d3 : rd Ev (va_up (va_up (va_up h4 o (some X)) (o + 1 + 1 + 1 + 1 + 1 + 1) (some Y)) o (some Z)) (o + 1) = rd Ev h1 (o + 1) := rd_ne (by omega) (rd_ne (by omega) (rd_ne (by omega) c3))
  have d4 : rd Ev (va_up (va_up (va_up h4 o (some X)) (o + 1 + 1 + 1 + 1 + 1 + 1) (some Y)) o (some Z)) (o + 2) = rd Ev h1 (o + 2) := rd_ne (by omega) (rd_ne (by omega) (rd_ne (by omega) c4))
  have d5 : rd Ev (va_up (va_up (va_up h4 o (some X)) (o + 1 + 1 + 1 + 1 + 1 + 1) (some Y)) o (some Z)) (o + 4) = some (.inl (eA Ev 7, 6, aQ (z_d1 Ev))) := rd_ne (by omega) (rd_ne (by omega) (rd_ne (by omega) c5))
  have d6 : rd Ev (va_up (va_up (va_up h4 o (some X)) (o + 1 + 1 + 1 + 1 + 1 + 1) (some Y)) o (some Z)) (o + 5) = some (.inl (eA Ev 2, 7, .inl z_d2)) := rd_ne (by omega) (rd_ne (by omega) (rd_ne (by omega) c6))
  have d7 : rd Ev (va_up (va_up (va_up h4 o (some X)) (o + 1 + 1 + 1 + 1 + 1 + 1) (some Y)) o (some Z)) (o + 6) = some Y := rd_ne (by omega) (rd_self _ _ _ _)
  generalize va_up (va_up (va_up h4 o (some X)) (o + 1 + 1 + 1 + 1 + 1 + 1) (some Y)) o (some Z) = h5 at s9 d1 d2 d3 d4 d5 d6 d7 ⊢
  subst hX hY hZ
  clear c1 c2 c3 c4 c5 c6 s8 e1 s1
  have d1' : rd Ev h5 o = some (.inr (1, [.ref (o + 1), .ref (o + 3), .ref (o + 4), .ref (o + 5), .ref (o + 6)])) := d1
  have t5 := sb h5 d3 d4
  clear d1 sb d3 d4 t1a t1b tr hm
  exact ok_end ⟨rfl, rfl, s9, t5, d1', d2, d5, d6, d7⟩
/-- Sheet(Sheet): a copy -/
theorem x2_init_2 (hp : rb_pf Ev) {h00 : AH} {x1 : Nat} (hzk : Zok z) (D00 : Dm Ev o h00) (s : SH Ev (rd Ev h00) x1 z) (D : Dm Ev (o + 1) h) (F0 : Frm Ev o [] h00 h) (eo : rd Ev h o = some (.inr (1, [.null, .null, .null, .null, .null]))) (hO : ∀ a, o ≤ a → eK Ev a = none) : Ok (f_X2_init_2 Ev h (o + 1) o x1) (Pm 0 0 fun _ h' k s => k ≤ 7 ∧ s ≤ 170 ∧ 6 ≤ k ∧ Dm Ev (o + 1 + k) h' ∧ Frm Ev o [] h00 h' ∧ ∃ bv cap, SM Ev (rd Ev h') o bv cap z) := by
  unfold f_X2_init_2
  refine ok_sbn D fun h1 D1 F1 t1 => ?_
  dsimp only
  have hen := hp.2.2.2.1
  have e1 : rd Ev h1 o = some (.inr (1, [.null, .null, .null, .null, .null])) := F1.get (by omega) (by simp) eo
  have s1 : SFl Ev (o + 1 + 2) o h00 h1 := ⟨D1, Frm.tr F0 F1 (by omega) (by simp)⟩
  have hoo := hO o (Nat.le_refl o)
  obtain ⟨f, hm, t1a, t1b, tr⟩ := t1
  have sb : ∀ h', rd Ev h' (o + 1) = rd Ev h1 (o + 1) → rd Ev h' (o + 2) = rd Ev h1 (o + 2) → SB Ev (rd Ev h') (o + 1) (o + 2) 16 0 0 [] := fun h' w1 w2 => ⟨f, hm, w1.trans t1a, w2.trans t1b, tr⟩
  clear D F0 eo D1 F1
  refine ok_ad ?_
  refine ok_put hoo e1 (Nat.le_of_ble_eq_true rfl) ?_
  refine ok_neg (by decide) ?_
  rw [show (7 : Int32).toNatClampNeg = 7 from rfl]
  have s2 := s1.up (a := o) (e := .inr (1, [.null, .null, .null, .null, .null].set 0 (.ref (o + 1)))) hoo (by omega) (by omega)
  refine ok_ad (ok_lt ?_)
  refine ok_is (j := 0) (hO _ (by omega)) (rd_self _ _ _ _) rfl (by omega) (by omega) ?_
  rw [va_up_up]
  refine ok_is (j := 1) (hO _ (by omega)) (rd_self _ _ _ _) rfl (by omega) (by omega) ?_
  rw [va_up_up]
  refine ok_is (j := 2) (hO _ (by omega)) (rd_self _ _ _ _) rfl (by omega) (by omega) ?_
  rw [va_up_up]
  refine ok_is (j := 3) (hO _ (by omega)) (rd_self _ _ _ _) rfl (by omega) (by omega) ?_
  rw [va_up_up]
  refine ok_is (j := 4) (hO _ (by omega)) (rd_self _ _ _ _) rfl (by omega) (by omega) ?_
  rw [va_up_up]
  refine ok_is (j := 5) (hO _ (by omega)) (rd_self _ _ _ _) rfl (by omega) (by omega) ?_
  rw [va_up_up]
  refine ok_is (j := 6) (hO _ (by omega)) (rd_self _ _ _ _) rfl (by omega) (by omega) ?_
  rw [va_up_up]
  have ez : upd (upd (upd (upd (upd (upd (upd (fun _ => 0) 0 0) 1 0) 2 2) 3 2) 4 4) 5 4) 6 3 = z_d0 := rfl
  rw [ez]
  have s4 := s2.new (e := .inl (eA Ev 0, 7, .inl z_d0)) (by omega)
  have a1 := rd_ne (Ev := Ev) (q := o + 1 + 1 + 1) (e := some (.inl (eA Ev 0, 7, .inl z_d0))) (show o ≠ o + 1 + 1 + 1 by omega) (rd_self Ev h1 o (.inr (1, [.null, .null, .null, .null, .null].set 0 (.ref (o + 1)))))
  have a2 := rd_self Ev (va_up h1 o (some (.inr (1, [.null, .null, .null, .null, .null].set 0 (.ref (o + 1)))))) (o + 1 + 1 + 1) (.inl (eA Ev 0, 7, .inl z_d0))
  have a3 : rd Ev (va_up (va_up h1 o (some (.inr (1, [.null, .null, .null, .null, .null].set 0 (.ref (o + 1)))))) (o + 1 + 1 + 1) (some (.inl (eA Ev 0, 7, .inl z_d0)))) (o + 1) = rd Ev h1 (o + 1) := rd_ne (by omega) (rd_ne (by omega) rfl)
  have a4 : rd Ev (va_up (va_up h1 o (some (.inr (1, [.null, .null, .null, .null, .null].set 0 (.ref (o + 1)))))) (o + 1 + 1 + 1) (some (.inl (eA Ev 0, 7, .inl z_d0)))) (o + 2) = rd Ev h1 (o + 2) := rd_ne (by omega) (rd_ne (by omega) rfl)
  generalize va_up (va_up h1 o (some (.inr (1, [.null, .null, .null, .null, .null].set 0 (.ref (o + 1)))))) (o + 1 + 1 + 1) (some (.inl (eA Ev 0, 7, .inl z_d0))) = h2 at s4 a1 a2 a3 a4 ⊢
  refine ok_put hoo a1 (Nat.le_of_ble_eq_true rfl) ?_
  refine ok_neg (by decide) ?_
  rw [show (6 : Int32).toNatClampNeg = 6 from rfl]
  have s5 := s4.up (a := o) (e := .inr (1, ([.null, .null, .null, .null, .null].set 0 (.ref (o + 1))).set 1 (.ref (o + 1 + 1 + 1)))) hoo (by omega) (by omega)
  refine ok_ad (ok_lt ?_)
  refine ok_sp (hen 0 (by omega)) (ok_eq (hp_en_k hp (k := 0) (by omega)) ?_)
  refine ok_as (j := 0) (hO _ (by omega)) (rd_self _ _ _ _) rfl (by omega) (by omega) ?_
  rw [va_up_up]
  refine ok_sp (hen 1 (by omega)) (ok_eq (hp_en_k hp (k := 1) (by omega)) ?_)
  refine ok_as (j := 1) (hO _ (by omega)) (rd_self _ _ _ _) rfl (by omega) (by omega) ?_
  rw [va_up_up]
  refine ok_sp (hen 2 (by omega)) (ok_eq (hp_en_k hp (k := 2) (by omega)) ?_)
  refine ok_as (j := 2) (hO _ (by omega)) (rd_self _ _ _ _) rfl (by omega) (by omega) ?_
  rw [va_up_up]
  refine ok_sp (hen 4 (by omega)) (ok_eq (hp_en_k hp (k := 4) (by omega)) ?_)
  refine ok_as (j := 3) (hO _ (by omega)) (rd_self _ _ _ _) rfl (by omega) (by omega) ?_
  rw [va_up_up]
  refine ok_sp (hen 3 (by omega)) (ok_eq (hp_en_k hp (k := 3) (by omega)) ?_)
  refine ok_as (j := 4) (hO _ (by omega)) (rd_self _ _ _ _) rfl (by omega) (by omega) ?_
  rw [va_up_up]
  refine ok_sp (hen 5 (by omega)) (ok_eq (hp_en_k hp (k := 5) (by omega)) ?_)
  refine ok_as (j := 5) (hO _ (by omega)) (rd_self _ _ _ _) rfl (by omega) (by omega) ?_
  rw [va_up_up]
  have ez2 : va_up (va_up (va_up (va_up (va_up (va_up (fun _ => none) 0 (some (eN Ev 0))) 1 (some (eN Ev 1))) 2 (some (eN Ev 2))) 3 (some (eN Ev 4))) 4 (some (eN Ev 3))) 5 (some (eN Ev 5)) = z_d1 Ev := rfl
  rw [ez2]
  have s6 := s5.new (e := .inl (eA Ev 7, 6, aQ (z_d1 Ev))) (by omega)
  have b1 := rd_ne (Ev := Ev) (q := o + 1 + 1 + 1 + 1) (e := some (.inl (eA Ev 7, 6, aQ (z_d1 Ev)))) (show o ≠ o + 1 + 1 + 1 + 1 by omega) (rd_self Ev h2 o (.inr (1, ([.null, .null, .null, .null, .null].set 0 (.ref (o + 1))).set 1 (.ref (o + 1 + 1 + 1)))))
  have b2 := rd_ne (Ev := Ev) (q := o + 1 + 1 + 1 + 1) (e := some (.inl (eA Ev 7, 6, aQ (z_d1 Ev)))) (show o + 1 + 1 + 1 ≠ o + 1 + 1 + 1 + 1 by omega) (rd_ne (q := o) (e := some (.inr (1, ([.null, .null, .null, .null, .null].set 0 (.ref (o + 1))).set 1 (.ref (o + 1 + 1 + 1))))) (by omega) a2)
  have b3 := rd_ne (Ev := Ev) (q := o + 1 + 1 + 1 + 1) (e := some (.inl (eA Ev 7, 6, aQ (z_d1 Ev)))) (show o + 1 ≠ o + 1 + 1 + 1 + 1 by omega) (rd_ne (q := o) (e := some (.inr (1, ([.null, .null, .null, .null, .null].set 0 (.ref (o + 1))).set 1 (.ref (o + 1 + 1 + 1))))) (by omega) a3)
  have b4 := rd_ne (Ev := Ev) (q := o + 1 + 1 + 1 + 1) (e := some (.inl (eA Ev 7, 6, aQ (z_d1 Ev)))) (show o + 2 ≠ o + 1 + 1 + 1 + 1 by omega) (rd_ne (q := o) (e := some (.inr (1, ([.null, .null, .null, .null, .null].set 0 (.ref (o + 1))).set 1 (.ref (o + 1 + 1 + 1))))) (by omega) a4)
  have b5 := rd_self Ev (va_up h2 o (some (.inr (1, ([.null, .null, .null, .null, .null].set 0 (.ref (o + 1))).set 1 (.ref (o + 1 + 1 + 1)))))) (o + 1 + 1 + 1 + 1) (.inl (eA Ev 7, 6, aQ (z_d1 Ev)))
  generalize va_up (va_up h2 o (some (.inr (1, ([.null, .null, .null, .null, .null].set 0 (.ref (o + 1))).set 1 (.ref (o + 1 + 1 + 1)))))) (o + 1 + 1 + 1 + 1) (some (.inl (eA Ev 7, 6, aQ (z_d1 Ev)))) = h3 at s6 b1 b2 b3 b4 b5 ⊢
  clear a1 a2 a3 a4 s4 s5 s2
  refine ok_put hoo b1 (Nat.le_of_ble_eq_true rfl) ?_
  refine ok_neg (by decide) ?_
  refine ok_ad (ok_lt ?_)
  refine ok_zs (j := 0) (z := 0) (hO _ (by omega)) (rd_self _ _ _ _) rfl (by omega) (by omega) (by decide +kernel) ?_
  rw [va_up_up]
  refine ok_zs (j := 1) (z := 0) (hO _ (by omega)) (rd_self _ _ _ _) rfl (by omega) (by omega) (by decide +kernel) ?_
  rw [va_up_up]
  refine ok_zs (j := 2) (z := 0) (hO _ (by omega)) (rd_self _ _ _ _) rfl (by omega) (by omega) (by decide +kernel) ?_
  rw [va_up_up]
  refine ok_zs (j := 3) (z := 0) (hO _ (by omega)) (rd_self _ _ _ _) rfl (by omega) (by omega) (by decide +kernel) ?_
  rw [va_up_up]
  refine ok_zs (j := 4) (z := 1) (hO _ (by omega)) (rd_self _ _ _ _) rfl (by omega) (by omega) (by decide +kernel) ?_
  rw [va_up_up]
  refine ok_zs (j := 5) (z := 1) (hO _ (by omega)) (rd_self _ _ _ _) rfl (by omega) (by omega) (by decide +kernel) ?_
  rw [va_up_up]
  refine ok_zs (j := 6) (z := 1) (hO _ (by omega)) (rd_self _ _ _ _) rfl (by omega) (by omega) (by decide +kernel) ?_
  rw [va_up_up]
  have ez3 : upd (upd (upd (upd (upd (upd (upd (fun _ => 0) 0 0) 1 0) 2 0) 3 0) 4 1) 5 1) 6 1 = z_d2 := rfl
  rw [ez3]
  generalize hX : (Sum.inr (1, (([Value.null, .null, .null, .null, .null].set 0 (.ref (o + 1))).set 1 (.ref (o + 1 + 1 + 1))).set 2 (.ref (o + 1 + 1 + 1 + 1))) : va_E) = X
  generalize hY : (Sum.inl (eA Ev 2, 7, .inl z_d2) : va_E) = Y
  have s7 := s6.up (a := o) (e := X) hoo (by omega) (by omega)
  have s8 := s7.new (e := Y) (by omega)
  have c1 := rd_ne (Ev := Ev) (q := o + 1 + 1 + 1 + 1 + 1) (e := some Y) (show o ≠ o + 1 + 1 + 1 + 1 + 1 by omega) (rd_self Ev h3 o X)
  have c2 := rd_ne (Ev := Ev) (q := o + 1 + 1 + 1 + 1 + 1) (e := some Y) (show o + 1 + 1 + 1 ≠ o + 1 + 1 + 1 + 1 + 1 by omega) (rd_ne (q := o) (e := some X) (by omega) b2)
  have c3 := rd_ne (Ev := Ev) (q := o + 1 + 1 + 1 + 1 + 1) (e := some Y) (show o + 1 ≠ o + 1 + 1 + 1 + 1 + 1 by omega) (rd_ne (q := o) (e := some X) (by omega) b3)
  have c4 := rd_ne (Ev := Ev) (q := o + 1 + 1 + 1 + 1 + 1) (e := some Y) (show o + 2 ≠ o + 1 + 1 + 1 + 1 + 1 by omega) (rd_ne (q := o) (e := some X) (by omega) b4)
  have c5 := rd_ne (Ev := Ev) (q := o + 1 + 1 + 1 + 1 + 1) (e := some Y) (show o + 1 + 1 + 1 + 1 ≠ o + 1 + 1 + 1 + 1 + 1 by omega) (rd_ne (q := o) (e := some X) (by omega) b5)
  have c6 := rd_self Ev (va_up h3 o (some X)) (o + 1 + 1 + 1 + 1 + 1) Y
  generalize va_up (va_up h3 o (some X)) (o + 1 + 1 + 1 + 1 + 1) (some Y) = h4 at s8 c1 c2 c3 c4 c5 c6 ⊢
  subst hX hY
  clear b1 b2 b3 b4 b5 s6 s7
  refine ok_put hoo c1 (Nat.le_of_ble_eq_true rfl) ?_
  refine ok_neg (by decide) ?_
  rw [show (5 : Int32).toNatClampNeg = 5 from rfl]
  refine ok_ad (ok_lt ?_)
  refine ok_put hoo (rd_ne (by omega) (rd_self _ _ _ _)) (Nat.le_of_ble_eq_true rfl) ?_
  generalize hX : (Sum.inr (1, ((([Value.null, .null, .null, .null, .null].set 0 (.ref (o + 1))).set 1 (.ref (o + 1 + 1 + 1))).set 2 (.ref (o + 1 + 1 + 1 + 1))).set 3 (.ref (o + 1 + 1 + 1 + 1 + 1))) : va_E) = X
  generalize hY : (Sum.inl (eA Ev 0, 5, .inl (fun _ => 0)) : va_E) = Y
  generalize hZ : (Sum.inr (1, (((([Value.null, .null, .null, .null, .null].set 0 (.ref (o + 1))).set 1 (.ref (o + 1 + 1 + 1))).set 2 (.ref (o + 1 + 1 + 1 + 1))).set 3 (.ref (o + 1 + 1 + 1 + 1 + 1))).set 4 (.ref (o + 1 + 1 + 1 + 1 + 1 + 1))) : va_E) = Z
  have s9 : SFl Ev (o + 7) o h00 (va_up (va_up (va_up h4 o (some X)) (o + 1 + 1 + 1 + 1 + 1 + 1) (some Y)) o (some Z)) := ((s8.up hoo (by omega) (by omega)).new (by omega)).up hoo (by omega) (by omega)
  have d1 := rd_self Ev (va_up (va_up h4 o (some X)) (o + 1 + 1 + 1 + 1 + 1 + 1) (some Y)) o Z
  have d2 : rd Ev (va_up (va_up (va_up h4 o (some X)) (o + 1 + 1 + 1 + 1 + 1 + 1) (some Y)) o (some Z)) (o + 3) = some (.inl (eA Ev 0, 7, .inl z_d0)) := rd_ne (by omega) (rd_ne (by omega) (rd_ne (by omega) c2))
  have d3 : rd Ev (va_up (va_up (va_up h4 o (some X)) (o + 1 + 1 + 1 + 1 + 1 + 1) (some Y)) o (some Z)) (o + 1) = rd Ev h1 (o + 1) := rd_ne (by omega) (rd_ne (by omega) (rd_ne (by omega) c3))
  have d4 : rd Ev (va_up (va_up (va_up h4 o (some X)) (o + 1 + 1 + 1 + 1 + 1 + 1) (some Y)) o (some Z)) (o + 2) = rd Ev h1 (o + 2) := rd_ne (by omega) (rd_ne (by omega) (rd_ne (by omega) c4))
  have d5 : rd Ev (va_up (va_up (va_up h4 o (some X)) (o + 1 + 1 + 1 + 1 + 1 + 1) (some Y)) o (some Z)) (o + 4) = some (.inl (eA Ev 7, 6, aQ (z_d1 Ev))) := rd_ne (by omega) (rd_ne (by omega) (rd_ne (by omega) c5))
  have d6 : rd Ev (va_up (va_up (va_up h4 o (some X)) (o + 1 + 1 + 1 + 1 + 1 + 1) (some Y)) o (some Z)) (o + 5) = some (.inl (eA Ev 2, 7, .inl z_d2)) := rd_ne (by omega) (rd_ne (by omega) (rd_ne (by omega) c6))
  have d7 : rd Ev (va_up (va_up (va_up h4 o (some X)) (o + 1 + 1 + 1 + 1 + 1 + 1) (some Y)) o (some Z)) (o + 6) = some Y := rd_ne (by omega) (rd_self _ _ _ _)
  generalize va_up (va_up (va_up h4 o (some X)) (o + 1 + 1 + 1 + 1 + 1 + 1) (some Y)) o (some Z) = h5 at s9 d1 d2 d3 d4 d5 d6 d7 ⊢
  subst hX hY hZ
  clear c1 c2 c3 c4 c5 c6 s8 e1 s1
  have d1' : rd Ev h5 o = some (.inr (1, [.ref (o + 1), .ref (o + 3), .ref (o + 4), .ref (o + 5), .ref (o + 6)])) := d1
  have t5 := sb h5 d3 d4
  clear d1 sb d3 d4 t1a t1b tr hm
  have hSub := Frm.sub0 (n := o) (m := 0) (h0 := h00) D00 s9.2
  obtain ⟨b', bv', cap', ca', ma', ra', sa', r1, ⟨ml', r2⟩, ⟨f3, r3, k3⟩, ⟨f4, r4, k4⟩, ⟨f5, r5, k5⟩, ⟨f6, r6, k6⟩, r7⟩ := s
  have l1 := D00.lt r1
  have l2 := (r2.lt D00)
  have l3 := D00.lt r3
  have l4 := D00.lt r4
  have l5 := D00.lt r5
  have l6 := D00.lt r6
  have r1' := hSub _ _ r1
  have r2' := r2.sub hSub
  obtain ⟨D9, F9⟩ := s9
  have hz24 := hzk.1
  obtain ⟨fT, hmT, u1, u2, uB, ul, uc⟩ := t5
  have t50 : SB Ev (rd Ev h5) (o + 1) (o + 2) 16 0 0 [] := ⟨fT, hmT, u1, u2, uB, ul, uc⟩
  have r20 := r2'
  obtain ⟨fS, hmS, y1, y2, yB, yl, yc⟩ := r2'
  (repeat (first | ((with_reducible apply ok_i); (focus ((repeat (first | (with_reducible assumption) | (with_reducible exact rd_self _ _ _ _) | (with_reducible refine rd_ne (by omega) ?_) | (with_reducible refine Frm.get (by with_reducible assumption) (by omega) (by (simp only [List.mem_cons, List.not_mem_nil, or_false, not_or, not_false_eq_true]; (first | done | omega))) ?_))); done)); exact rfl) | ((with_reducible apply ok_p); (focus ((repeat (first | (with_reducible assumption) | (with_reducible exact rd_self _ _ _ _) | (with_reducible refine rd_ne (by omega) ?_) | (with_reducible refine Frm.get (by with_reducible assumption) (by omega) (by (simp only [List.mem_cons, List.not_mem_nil, or_false, not_or, not_false_eq_true]; (first | done | omega))) ?_))); done)); exact rfl) | ((with_reducible apply ok_k); (focus ((repeat (first | (with_reducible assumption) | (with_reducible exact rd_self _ _ _ _) | (with_reducible refine rd_ne (by omega) ?_) | (with_reducible refine Frm.get (by with_reducible assumption) (by omega) (by (simp only [List.mem_cons, List.not_mem_nil, or_false, not_or, not_false_eq_true]; (first | done | omega))) ?_))); done))) | ((with_reducible apply ok_len); (focus ((repeat (first | (with_reducible assumption) | (with_reducible exact rd_self _ _ _ _) | (with_reducible refine rd_ne (by omega) ?_) | (with_reducible refine Frm.get (by with_reducible assumption) (by omega) (by (simp only [List.mem_cons, List.not_mem_nil, or_false, not_or, not_false_eq_true]; (first | done | omega))) ?_))); done))) | (with_reducible apply ok_lt) | (with_reducible apply ok_ad) | ((with_reducible apply ok_put); (first | (with_reducible assumption) | exact D.ow (by omega) | exact hO _ (by omega)); (focus ((repeat (first | (with_reducible assumption) | (with_reducible exact rd_self _ _ _ _) | (with_reducible refine rd_ne (by omega) ?_) | (with_reducible refine Frm.get (by with_reducible assumption) (by omega) (by (simp only [List.mem_cons, List.not_mem_nil, or_false, not_or, not_false_eq_true]; (first | done | omega))) ?_))); done)); exact Nat.le_of_ble_eq_true rfl) | ((with_reducible apply ok_cls); (focus ((repeat (first | (with_reducible assumption) | (with_reducible exact rd_self _ _ _ _) | (with_reducible refine rd_ne (by omega) ?_) | (with_reducible refine Frm.get (by with_reducible assumption) (by omega) (by (simp only [List.mem_cons, List.not_mem_nil, or_false, not_or, not_false_eq_true]; (first | done | omega))) ?_))); done))) | ((with_reducible apply ok_ca); (focus ((repeat (first | (with_reducible assumption) | (with_reducible exact rd_self _ _ _ _) | (with_reducible refine rd_ne (by omega) ?_) | (with_reducible refine Frm.get (by with_reducible assumption) (by omega) (by (simp only [List.mem_cons, List.not_mem_nil, or_false, not_or, not_false_eq_true]; (first | done | omega))) ?_))); done)); exact (by decide)) | ((with_reducible apply ok_isa1); (focus ((repeat (first | (with_reducible assumption) | (with_reducible exact rd_self _ _ _ _) | (with_reducible refine rd_ne (by omega) ?_) | (with_reducible refine Frm.get (by with_reducible assumption) (by omega) (by (simp only [List.mem_cons, List.not_mem_nil, or_false, not_or, not_false_eq_true]; (first | done | omega))) ?_))); done)); exact (by decide)) | ((with_reducible apply ok_isa0); (focus ((repeat (first | (with_reducible assumption) | (with_reducible exact rd_self _ _ _ _) | (with_reducible refine rd_ne (by omega) ?_) | (with_reducible refine Frm.get (by with_reducible assumption) (by omega) (by (simp only [List.mem_cons, List.not_mem_nil, or_false, not_or, not_false_eq_true]; (first | done | omega))) ?_))); done)); exact (by decide); exact (by decide)) | ((with_reducible apply ok_oS); (focus ((repeat (first | (with_reducible assumption) | (with_reducible exact rd_self _ _ _ _) | (with_reducible refine rd_ne (by omega) ?_) | (with_reducible refine Frm.get (by with_reducible assumption) (by omega) (by (simp only [List.mem_cons, List.not_mem_nil, or_false, not_or, not_false_eq_true]; (first | done | omega))) ?_))); done)); exact rfl) | ((with_reducible apply ok_oN); (focus ((repeat (first | (with_reducible assumption) | (with_reducible exact rd_self _ _ _ _) | (with_reducible refine rd_ne (by omega) ?_) | (with_reducible refine Frm.get (by with_reducible assumption) (by omega) (by (simp only [List.mem_cons, List.not_mem_nil, or_false, not_or, not_false_eq_true]; (first | done | omega))) ?_))); done)); exact rfl) | ((with_reducible apply ok_j); (focus ((repeat (first | (with_reducible assumption) | (with_reducible exact rd_self _ _ _ _) | (with_reducible refine rd_ne (by omega) ?_) | (with_reducible refine Frm.get (by with_reducible assumption) (by omega) (by (simp only [List.mem_cons, List.not_mem_nil, or_false, not_or, not_false_eq_true]; (first | done | omega))) ?_))); done)); exact rfl)))
  have D9' : Dm Ev (o + 1 + 1 + 1 + 1 + 1 + 1 + 1) h5 := D9
  refine ok_call (j1_append_b D9' t50 (hO _ (by omega)) (hO _ (by omega)) r20 (by omega) (by omega) (by omega)) fun r h6 k6' s6' D10 F10 hQ => ?_
  obtain ⟨rfl, v', cap2, ml2, tt, i1, i2, i3, i4, i5⟩ := hQ
  dsimp only
  have hcap0 : SB Ev (rd Ev h00) b' bv' cap' 0 ml' z.1 := r2
  have m1 := F10.get (show o < o + 1 + 1 + 1 + 1 + 1 + 1 + 1 by omega) (by simp) d1'
  have m2 := F10.get (show o + 3 < o + 1 + 1 + 1 + 1 + 1 + 1 + 1 by omega) (by simp) d2
  have m3 := F10.get (show o + 4 < o + 1 + 1 + 1 + 1 + 1 + 1 + 1 by omega) (by simp) d5
  have m4 := F10.get (show o + 5 < o + 1 + 1 + 1 + 1 + 1 + 1 + 1 by omega) (by simp) d6
  have m5 := F10.get (show o + 6 < o + 1 + 1 + 1 + 1 + 1 + 1 + 1 by omega) (by simp) d7
  have F10' : Frm Ev o [] h00 h6 := Frm.tr F9 F10 (by omega) (by simp)
  have hSub6 := Frm.sub0 (n := o) (m := 0) (h0 := h00) D00 F10'
  have z1 := hSub6 _ _ r1
  have z3 := hSub6 _ _ r3
  have z4 := hSub6 _ _ r4
  have z5 := hSub6 _ _ r5
  have z6 := hSub6 _ _ r6
  clear F9 D9 D9' t50 hSub
  rw [List.nil_append] at tt
  obtain ⟨fU, hmU, x1', x2', xB, xl, xc⟩ := tt
  have fitI : ∀ (g : Nat → Int32) (i : Nat), fits .int (.int (g i)) = true := fun g i => rfl
  (repeat (first | ((with_reducible apply ok_i); (focus ((repeat (first | (with_reducible assumption) | (with_reducible exact rd_self _ _ _ _) | (with_reducible refine rd_ne (by omega) ?_) | (with_reducible refine Frm.get (by with_reducible assumption) (by omega) (by (simp only [List.mem_cons, List.not_mem_nil, or_false, not_or, not_false_eq_true]; (first | done | omega))) ?_))); done)); exact rfl) | ((with_reducible apply ok_p); (focus ((repeat (first | (with_reducible assumption) | (with_reducible exact rd_self _ _ _ _) | (with_reducible refine rd_ne (by omega) ?_) | (with_reducible refine Frm.get (by with_reducible assumption) (by omega) (by (simp only [List.mem_cons, List.not_mem_nil, or_false, not_or, not_false_eq_true]; (first | done | omega))) ?_))); done)); exact rfl) | ((with_reducible apply ok_k); (focus ((repeat (first | (with_reducible assumption) | (with_reducible exact rd_self _ _ _ _) | (with_reducible refine rd_ne (by omega) ?_) | (with_reducible refine Frm.get (by with_reducible assumption) (by omega) (by (simp only [List.mem_cons, List.not_mem_nil, or_false, not_or, not_false_eq_true]; (first | done | omega))) ?_))); done))) | ((with_reducible apply ok_len); (focus ((repeat (first | (with_reducible assumption) | (with_reducible exact rd_self _ _ _ _) | (with_reducible refine rd_ne (by omega) ?_) | (with_reducible refine Frm.get (by with_reducible assumption) (by omega) (by (simp only [List.mem_cons, List.not_mem_nil, or_false, not_or, not_false_eq_true]; (first | done | omega))) ?_))); done))) | (with_reducible apply ok_lt) | (with_reducible apply ok_ad) | ((with_reducible apply ok_put); (first | (with_reducible assumption) | exact D.ow (by omega) | exact hO _ (by omega)); (focus ((repeat (first | (with_reducible assumption) | (with_reducible exact rd_self _ _ _ _) | (with_reducible refine rd_ne (by omega) ?_) | (with_reducible refine Frm.get (by with_reducible assumption) (by omega) (by (simp only [List.mem_cons, List.not_mem_nil, or_false, not_or, not_false_eq_true]; (first | done | omega))) ?_))); done)); exact Nat.le_of_ble_eq_true rfl) | ((with_reducible apply ok_cls); (focus ((repeat (first | (with_reducible assumption) | (with_reducible exact rd_self _ _ _ _) | (with_reducible refine rd_ne (by omega) ?_) | (with_reducible refine Frm.get (by with_reducible assumption) (by omega) (by (simp only [List.mem_cons, List.not_mem_nil, or_false, not_or, not_false_eq_true]; (first | done | omega))) ?_))); done))) | ((with_reducible apply ok_ca); (focus ((repeat (first | (with_reducible assumption) | (with_reducible exact rd_self _ _ _ _) | (with_reducible refine rd_ne (by omega) ?_) | (with_reducible refine Frm.get (by with_reducible assumption) (by omega) (by (simp only [List.mem_cons, List.not_mem_nil, or_false, not_or, not_false_eq_true]; (first | done | omega))) ?_))); done)); exact (by decide)) | ((with_reducible apply ok_isa1); (focus ((repeat (first | (with_reducible assumption) | (with_reducible exact rd_self _ _ _ _) | (with_reducible refine rd_ne (by omega) ?_) | (with_reducible refine Frm.get (by with_reducible assumption) (by omega) (by (simp only [List.mem_cons, List.not_mem_nil, or_false, not_or, not_false_eq_true]; (first | done | omega))) ?_))); done)); exact (by decide)) | ((with_reducible apply ok_isa0); (focus ((repeat (first | (with_reducible assumption) | (with_reducible exact rd_self _ _ _ _) | (with_reducible refine rd_ne (by omega) ?_) | (with_reducible refine Frm.get (by with_reducible assumption) (by omega) (by (simp only [List.mem_cons, List.not_mem_nil, or_false, not_or, not_false_eq_true]; (first | done | omega))) ?_))); done)); exact (by decide); exact (by decide)) | ((with_reducible apply ok_oS); (focus ((repeat (first | (with_reducible assumption) | (with_reducible exact rd_self _ _ _ _) | (with_reducible refine rd_ne (by omega) ?_) | (with_reducible refine Frm.get (by with_reducible assumption) (by omega) (by (simp only [List.mem_cons, List.not_mem_nil, or_false, not_or, not_false_eq_true]; (first | done | omega))) ?_))); done)); exact rfl) | ((with_reducible apply ok_oN); (focus ((repeat (first | (with_reducible assumption) | (with_reducible exact rd_self _ _ _ _) | (with_reducible refine rd_ne (by omega) ?_) | (with_reducible refine Frm.get (by with_reducible assumption) (by omega) (by (simp only [List.mem_cons, List.not_mem_nil, or_false, not_or, not_false_eq_true]; (first | done | omega))) ?_))); done)); exact rfl) | ((with_reducible apply ok_j); (focus ((repeat (first | (with_reducible assumption) | (with_reducible exact rd_self _ _ _ _) | (with_reducible refine rd_ne (by omega) ?_) | (with_reducible refine Frm.get (by with_reducible assumption) (by omega) (by (simp only [List.mem_cons, List.not_mem_nil, or_false, not_or, not_false_eq_true]; (first | done | omega))) ?_))); done)); exact rfl)))
  refine ok_cpi (a := 0) (b := 0) (m := 7) (hO _ (by omega)) z3 m2 rfl rfl rfl (by omega) (by omega) (by omega) (by omega) (fun i _ => fitI _ _) ?_
  generalize hA : (Sum.inl (eA Ev 0, 7, .inl (va_cpy f3 z_d0 0 0 7)) : va_E) = A
  (repeat (first | ((with_reducible apply ok_i); (focus ((repeat (first | (with_reducible assumption) | (with_reducible exact rd_self _ _ _ _) | (with_reducible refine rd_ne (by omega) ?_) | (with_reducible refine Frm.get (by with_reducible assumption) (by omega) (by (simp only [List.mem_cons, List.not_mem_nil, or_false, not_or, not_false_eq_true]; (first | done | omega))) ?_))); done)); exact rfl) | ((with_reducible apply ok_p); (focus ((repeat (first | (with_reducible assumption) | (with_reducible exact rd_self _ _ _ _) | (with_reducible refine rd_ne (by omega) ?_) | (with_reducible refine Frm.get (by with_reducible assumption) (by omega) (by (simp only [List.mem_cons, List.not_mem_nil, or_false, not_or, not_false_eq_true]; (first | done | omega))) ?_))); done)); exact rfl) | ((with_reducible apply ok_k); (focus ((repeat (first | (with_reducible assumption) | (with_reducible exact rd_self _ _ _ _) | (with_reducible refine rd_ne (by omega) ?_) | (with_reducible refine Frm.get (by with_reducible assumption) (by omega) (by (simp only [List.mem_cons, List.not_mem_nil, or_false, not_or, not_false_eq_true]; (first | done | omega))) ?_))); done))) | ((with_reducible apply ok_len); (focus ((repeat (first | (with_reducible assumption) | (with_reducible exact rd_self _ _ _ _) | (with_reducible refine rd_ne (by omega) ?_) | (with_reducible refine Frm.get (by with_reducible assumption) (by omega) (by (simp only [List.mem_cons, List.not_mem_nil, or_false, not_or, not_false_eq_true]; (first | done | omega))) ?_))); done))) | (with_reducible apply ok_lt) | (with_reducible apply ok_ad) | ((with_reducible apply ok_put); (first | (with_reducible assumption) | exact D.ow (by omega) | exact hO _ (by omega)); (focus ((repeat (first | (with_reducible assumption) | (with_reducible exact rd_self _ _ _ _) | (with_reducible refine rd_ne (by omega) ?_) | (with_reducible refine Frm.get (by with_reducible assumption) (by omega) (by (simp only [List.mem_cons, List.not_mem_nil, or_false, not_or, not_false_eq_true]; (first | done | omega))) ?_))); done)); exact Nat.le_of_ble_eq_true rfl) | ((with_reducible apply ok_cls); (focus ((repeat (first | (with_reducible assumption) | (with_reducible exact rd_self _ _ _ _) | (with_reducible refine rd_ne (by omega) ?_) | (with_reducible refine Frm.get (by with_reducible assumption) (by omega) (by (simp only [List.mem_cons, List.not_mem_nil, or_false, not_or, not_false_eq_true]; (first | done | omega))) ?_))); done))) | ((with_reducible apply ok_ca); (focus ((repeat (first | (with_reducible assumption) | (with_reducible exact rd_self _ _ _ _) | (with_reducible refine rd_ne (by omega) ?_) | (with_reducible refine Frm.get (by with_reducible assumption) (by omega) (by (simp only [List.mem_cons, List.not_mem_nil, or_false, not_or, not_false_eq_true]; (first | done | omega))) ?_))); done)); exact (by decide)) | ((with_reducible apply ok_isa1); (focus ((repeat (first | (with_reducible assumption) | (with_reducible exact rd_self _ _ _ _) | (with_reducible refine rd_ne (by omega) ?_) | (with_reducible refine Frm.get (by with_reducible assumption) (by omega) (by (simp only [List.mem_cons, List.not_mem_nil, or_false, not_or, not_false_eq_true]; (first | done | omega))) ?_))); done)); exact (by decide)) | ((with_reducible apply ok_isa0); (focus ((repeat (first | (with_reducible assumption) | (with_reducible exact rd_self _ _ _ _) | (with_reducible refine rd_ne (by omega) ?_) | (with_reducible refine Frm.get (by with_reducible assumption) (by omega) (by (simp only [List.mem_cons, List.not_mem_nil, or_false, not_or, not_false_eq_true]; (first | done | omega))) ?_))); done)); exact (by decide); exact (by decide)) | ((with_reducible apply ok_oS); (focus ((repeat (first | (with_reducible assumption) | (with_reducible exact rd_self _ _ _ _) | (with_reducible refine rd_ne (by omega) ?_) | (with_reducible refine Frm.get (by with_reducible assumption) (by omega) (by (simp only [List.mem_cons, List.not_mem_nil, or_false, not_or, not_false_eq_true]; (first | done | omega))) ?_))); done)); exact rfl) | ((with_reducible apply ok_oN); (focus ((repeat (first | (with_reducible assumption) | (with_reducible exact rd_self _ _ _ _) | (with_reducible refine rd_ne (by omega) ?_) | (with_reducible refine Frm.get (by with_reducible assumption) (by omega) (by (simp only [List.mem_cons, List.not_mem_nil, or_false, not_or, not_false_eq_true]; (first | done | omega))) ?_))); done)); exact rfl) | ((with_reducible apply ok_j); (focus ((repeat (first | (with_reducible assumption) | (with_reducible exact rd_self _ _ _ _) | (with_reducible refine rd_ne (by omega) ?_) | (with_reducible refine Frm.get (by with_reducible assumption) (by omega) (by (simp only [List.mem_cons, List.not_mem_nil, or_false, not_or, not_false_eq_true]; (first | done | omega))) ?_))); done)); exact rfl)))
  refine ok_cpe (a := 0) (b := 0) (m := 6) (hO _ (by omega)) (rd_ne (by omega) z4) (rd_ne (by omega) m3) rfl rfl rfl (by omega) (by omega) (by omega) (by omega) (fun i hi => ?_) ?_
  · rw [Nat.zero_add, k4 i hi]
    simp only [Option.all_some]
    rw [hp_en_k hp (hzk.2.2.2.2.1 i hi)]; rfl
  generalize hB : (Sum.inl (eA Ev 7, 6, aQ (va_cpy f4 (z_d1 Ev) 0 0 6)) : va_E) = B
  (repeat (first | ((with_reducible apply ok_i); (focus ((repeat (first | (with_reducible assumption) | (with_reducible exact rd_self _ _ _ _) | (with_reducible refine rd_ne (by omega) ?_) | (with_reducible refine Frm.get (by with_reducible assumption) (by omega) (by (simp only [List.mem_cons, List.not_mem_nil, or_false, not_or, not_false_eq_true]; (first | done | omega))) ?_))); done)); exact rfl) | ((with_reducible apply ok_p); (focus ((repeat (first | (with_reducible assumption) | (with_reducible exact rd_self _ _ _ _) | (with_reducible refine rd_ne (by omega) ?_) | (with_reducible refine Frm.get (by with_reducible assumption) (by omega) (by (simp only [List.mem_cons, List.not_mem_nil, or_false, not_or, not_false_eq_true]; (first | done | omega))) ?_))); done)); exact rfl) | ((with_reducible apply ok_k); (focus ((repeat (first | (with_reducible assumption) | (with_reducible exact rd_self _ _ _ _) | (with_reducible refine rd_ne (by omega) ?_) | (with_reducible refine Frm.get (by with_reducible assumption) (by omega) (by (simp only [List.mem_cons, List.not_mem_nil, or_false, not_or, not_false_eq_true]; (first | done | omega))) ?_))); done))) | ((with_reducible apply ok_len); (focus ((repeat (first | (with_reducible assumption) | (with_reducible exact rd_self _ _ _ _) | (with_reducible refine rd_ne (by omega) ?_) | (with_reducible refine Frm.get (by with_reducible assumption) (by omega) (by (simp only [List.mem_cons, List.not_mem_nil, or_false, not_or, not_false_eq_true]; (first | done | omega))) ?_))); done))) | (with_reducible apply ok_lt) | (with_reducible apply ok_ad) | ((with_reducible apply ok_put); (first | (with_reducible assumption) | exact D.ow (by omega) | exact hO _ (by omega)); (focus ((repeat (first | (with_reducible assumption) | (with_reducible exact rd_self _ _ _ _) | (with_reducible refine rd_ne (by omega) ?_) | (with_reducible refine Frm.get (by with_reducible assumption) (by omega) (by (simp only [List.mem_cons, List.not_mem_nil, or_false, not_or, not_false_eq_true]; (first | done | omega))) ?_))); done)); exact Nat.le_of_ble_eq_true rfl) | ((with_reducible apply ok_cls); (focus ((repeat (first | (with_reducible assumption) | (with_reducible exact rd_self _ _ _ _) | (with_reducible refine rd_ne (by omega) ?_) | (with_reducible refine Frm.get (by with_reducible assumption) (by omega) (by (simp only [List.mem_cons, List.not_mem_nil, or_false, not_or, not_false_eq_true]; (first | done | omega))) ?_))); done))) | ((with_reducible apply ok_ca); (focus ((repeat (first | (with_reducible assumption) | (with_reducible exact rd_self _ _ _ _) | (with_reducible refine rd_ne (by omega) ?_) | (with_reducible refine Frm.get (by with_reducible assumption) (by omega) (by (simp only [List.mem_cons, List.not_mem_nil, or_false, not_or, not_false_eq_true]; (first | done | omega))) ?_))); done)); exact (by decide)) | ((with_reducible apply ok_isa1); (focus ((repeat (first | (with_reducible assumption) | (with_reducible exact rd_self _ _ _ _) | (with_reducible refine rd_ne (by omega) ?_) | (with_reducible refine Frm.get (by with_reducible assumption) (by omega) (by (simp only [List.mem_cons, List.not_mem_nil, or_false, not_or, not_false_eq_true]; (first | done | omega))) ?_))); done)); exact (by decide)) | ((with_reducible apply ok_isa0); (focus ((repeat (first | (with_reducible assumption) | (with_reducible exact rd_self _ _ _ _) | (with_reducible refine rd_ne (by omega) ?_) | (with_reducible refine Frm.get (by with_reducible assumption) (by omega) (by (simp only [List.mem_cons, List.not_mem_nil, or_false, not_or, not_false_eq_true]; (first | done | omega))) ?_))); done)); exact (by decide); exact (by decide)) | ((with_reducible apply ok_oS); (focus ((repeat (first | (with_reducible assumption) | (with_reducible exact rd_self _ _ _ _) | (with_reducible refine rd_ne (by omega) ?_) | (with_reducible refine Frm.get (by with_reducible assumption) (by omega) (by (simp only [List.mem_cons, List.not_mem_nil, or_false, not_or, not_false_eq_true]; (first | done | omega))) ?_))); done)); exact rfl) | ((with_reducible apply ok_oN); (focus ((repeat (first | (with_reducible assumption) | (with_reducible exact rd_self _ _ _ _) | (with_reducible refine rd_ne (by omega) ?_) | (with_reducible refine Frm.get (by with_reducible assumption) (by omega) (by (simp only [List.mem_cons, List.not_mem_nil, or_false, not_or, not_false_eq_true]; (first | done | omega))) ?_))); done)); exact rfl) | ((with_reducible apply ok_j); (focus ((repeat (first | (with_reducible assumption) | (with_reducible exact rd_self _ _ _ _) | (with_reducible refine rd_ne (by omega) ?_) | (with_reducible refine Frm.get (by with_reducible assumption) (by omega) (by (simp only [List.mem_cons, List.not_mem_nil, or_false, not_or, not_false_eq_true]; (first | done | omega))) ?_))); done)); exact rfl)))
  refine ok_cpi (a := 0) (b := 0) (m := 7) (hO _ (by omega)) (rd_ne (by omega) (rd_ne (by omega) z5)) (rd_ne (by omega) (rd_ne (by omega) m4)) rfl rfl rfl (by omega) (by omega) (by omega) (by omega) (fun i hi => ?_) ?_
  · rw [Nat.zero_add, k5 i hi]
    cases z.2.2.2.1 i <;> rfl
  generalize hC : (Sum.inl (eA Ev 2, 7, .inl (va_cpy f5 z_d2 0 0 7)) : va_E) = C
  (repeat (first | ((with_reducible apply ok_i); (focus ((repeat (first | (with_reducible assumption) | (with_reducible exact rd_self _ _ _ _) | (with_reducible refine rd_ne (by omega) ?_) | (with_reducible refine Frm.get (by with_reducible assumption) (by omega) (by (simp only [List.mem_cons, List.not_mem_nil, or_false, not_or, not_false_eq_true]; (first | done | omega))) ?_))); done)); exact rfl) | ((with_reducible apply ok_p); (focus ((repeat (first | (with_reducible assumption) | (with_reducible exact rd_self _ _ _ _) | (with_reducible refine rd_ne (by omega) ?_) | (with_reducible refine Frm.get (by with_reducible assumption) (by omega) (by (simp only [List.mem_cons, List.not_mem_nil, or_false, not_or, not_false_eq_true]; (first | done | omega))) ?_))); done)); exact rfl) | ((with_reducible apply ok_k); (focus ((repeat (first | (with_reducible assumption) | (with_reducible exact rd_self _ _ _ _) | (with_reducible refine rd_ne (by omega) ?_) | (with_reducible refine Frm.get (by with_reducible assumption) (by omega) (by (simp only [List.mem_cons, List.not_mem_nil, or_false, not_or, not_false_eq_true]; (first | done | omega))) ?_))); done))) | ((with_reducible apply ok_len); (focus ((repeat (first | (with_reducible assumption) | (with_reducible exact rd_self _ _ _ _) | (with_reducible refine rd_ne (by omega) ?_) | (with_reducible refine Frm.get (by with_reducible assumption) (by omega) (by (simp only [List.mem_cons, List.not_mem_nil, or_false, not_or, not_false_eq_true]; (first | done | omega))) ?_))); done))) | (with_reducible apply ok_lt) | (with_reducible apply ok_ad) | ((with_reducible apply ok_put); (first | (with_reducible assumption) | exact D.ow (by omega) | exact hO _ (by omega)); (focus ((repeat (first | (with_reducible assumption) | (with_reducible exact rd_self _ _ _ _) | (with_reducible refine rd_ne (by omega) ?_) | (with_reducible refine Frm.get (by with_reducible assumption) (by omega) (by (simp only [List.mem_cons, List.not_mem_nil, or_false, not_or, not_false_eq_true]; (first | done | omega))) ?_))); done)); exact Nat.le_of_ble_eq_true rfl) | ((with_reducible apply ok_cls); (focus ((repeat (first | (with_reducible assumption) | (with_reducible exact rd_self _ _ _ _) | (with_reducible refine rd_ne (by omega) ?_) | (with_reducible refine Frm.get (by with_reducible assumption) (by omega) (by (simp only [List.mem_cons, List.not_mem_nil, or_false, not_or, not_false_eq_true]; (first | done | omega))) ?_))); done))) | ((with_reducible apply ok_ca); (focus ((repeat (first | (with_reducible assumption) | (with_reducible exact rd_self _ _ _ _) | (with_reducible refine rd_ne (by omega) ?_) | (with_reducible refine Frm.get (by with_reducible assumption) (by omega) (by (simp only [List.mem_cons, List.not_mem_nil, or_false, not_or, not_false_eq_true]; (first | done | omega))) ?_))); done)); exact (by decide)) | ((with_reducible apply ok_isa1); (focus ((repeat (first | (with_reducible assumption) | (with_reducible exact rd_self _ _ _ _) | (with_reducible refine rd_ne (by omega) ?_) | (with_reducible refine Frm.get (by with_reducible assumption) (by omega) (by (simp only [List.mem_cons, List.not_mem_nil, or_false, not_or, not_false_eq_true]; (first | done | omega))) ?_))); done)); exact (by decide)) | ((with_reducible apply ok_isa0); (focus ((repeat (first | (with_reducible assumption) | (with_reducible exact rd_self _ _ _ _) | (with_reducible refine rd_ne (by omega) ?_) | (with_reducible refine Frm.get (by with_reducible assumption) (by omega) (by (simp only [List.mem_cons, List.not_mem_nil, or_false, not_or, not_false_eq_true]; (first | done | omega))) ?_))); done)); exact (by decide); exact (by decide)) | ((with_reducible apply ok_oS); (focus ((repeat (first | (with_reducible assumption) | (with_reducible exact rd_self _ _ _ _) | (with_reducible refine rd_ne (by omega) ?_) | (with_reducible refine Frm.get (by with_reducible assumption) (by omega) (by (simp only [List.mem_cons, List.not_mem_nil, or_false, not_or, not_false_eq_true]; (first | done | omega))) ?_))); done)); exact rfl) | ((with_reducible apply ok_oN); (focus ((repeat (first | (with_reducible assumption) | (with_reducible exact rd_self _ _ _ _) | (with_reducible refine rd_ne (by omega) ?_) | (with_reducible refine Frm.get (by with_reducible assumption) (by omega) (by (simp only [List.mem_cons, List.not_mem_nil, or_false, not_or, not_false_eq_true]; (first | done | omega))) ?_))); done)); exact rfl) | ((with_reducible apply ok_j); (focus ((repeat (first | (with_reducible assumption) | (with_reducible exact rd_self _ _ _ _) | (with_reducible refine rd_ne (by omega) ?_) | (with_reducible refine Frm.get (by with_reducible assumption) (by omega) (by (simp only [List.mem_cons, List.not_mem_nil, or_false, not_or, not_false_eq_true]; (first | done | omega))) ?_))); done)); exact rfl)))
  refine ok_cpi (a := 0) (b := 0) (m := 5) (hO _ (by omega)) (rd_ne (by omega) (rd_ne (by omega) (rd_ne (by omega) z6))) (rd_ne (by omega) (rd_ne (by omega) (rd_ne (by omega) m5))) rfl rfl rfl (by omega) (by omega) (by omega) (by omega) (fun i _ => fitI _ _) ?_
  have i5' : cap2 ≤ 52 := by simp only [List.length_nil] at i5; omega
  refine ok_end ⟨by omega, by omega, by omega, ?_, ?_, v', cap2, ⟨rd_ne (by omega) (rd_ne (by omega) (rd_ne (by omega) (rd_ne (by omega) m1))), ⟨ml2, fU, hmU, rd_ne (by omega) (rd_ne (by omega) (rd_ne (by omega) (rd_ne (by omega) x1'))), rd_ne (by omega) (rd_ne (by omega) (rd_ne (by omega) (rd_ne (by omega) x2'))), xB, xl, xc⟩, ⟨va_cpy f3 z_d0 0 0 7, ?_, fun i hi => ?_⟩, ⟨va_cpy f4 (z_d1 Ev) 0 0 6, ?_, fun i hi => ?_⟩, ⟨va_cpy f5 z_d2 0 0 7, ?_, fun i hi => ?_⟩, ⟨va_cpy f6 (fun _ => 0) 0 0 5, rd_self _ _ _ _, fun i hi => ?_⟩, by omega⟩, by omega⟩
  · exact Dm.up (hO _ (by omega)) (by omega) (Dm.up (hO _ (by omega)) (by omega) (Dm.up (hO _ (by omega)) (by omega) (Dm.up (hO _ (by omega)) (by omega) (D10.mono (by omega)))))
  · exact Frm.up (Or.inl (by omega)) (Frm.up (Or.inl (by omega)) (Frm.up (Or.inl (by omega)) (Frm.up (Or.inl (by omega)) F10')))
  · subst hA; exact rd_ne (by omega) (rd_ne (by omega) (rd_ne (by omega) (rd_self _ _ _ _)))
  · rw [pk_cpy_in (Nat.zero_le i) (by omega), Nat.zero_add, Nat.sub_zero]; exact k3 i hi
  · subst hB; exact rd_ne (by omega) (rd_ne (by omega) (rd_self _ _ _ _))
  · rw [pk_cpy_in (Nat.zero_le i) (by omega), Nat.zero_add, Nat.sub_zero]; exact k4 i hi
  · subst hC; exact rd_ne (by omega) (rd_self _ _ _ _)
  · rw [pk_cpy_in (Nat.zero_le i) (by omega), Nat.zero_add, Nat.sub_zero]; exact k5 i hi
  · rw [pk_cpy_in (Nat.zero_le i) (by omega), Nat.zero_add, Nat.sub_zero]; exact k6 i hi
end COPY
