set_option maxRecDepth 100000
set_option linter.unusedVariables false
section ROW5
variable {Ev : rb_E} {h h0 h' hB hS : AH} {n n0 nB o m x p pe b bv q1 q2 q v co cap hd sh size : Nat} {L A B : List Nat} {st : Zst} {cs : List Nat} {β : Type} {P : β → Prop} {z : Zs} {Gr : Int32} {Md : Int64} {ft : Nat → Int32} {fg : Nat → Option Nat}
theorem RB.to (R : RB Ev n0 h0 x A B Gr Md ft fg nB hB) (D : Dm Ev n h) (hn : nB ≤ n) (F : Frm Ev nB [] hB h) : RB Ev n0 h0 x A B Gr Md ft fg n h := by
  obtain ⟨k, rfl⟩ : ∃ k, n = nB + k := ⟨n - nB, by omega⟩
  exact R.step D F
abbrev z_rv (z : Zs) (i : Nat) : Nat := z_val z ((z_ol z).getD i 0)
abbrev z_ra (z : Zs) (k a b : Nat) : Nat := z_apo z ((z_pl z).getD (k - 1) 0) a b
/-- the values of the bracketings of c operands from f on -/
abbrev z_bv (z : Zs) (f c : Nat) : List Nat := b_val (z_rv z) (z_ra z) 9 f c
abbrev z_V (z : Zs) (f c : Nat) : List Nat := z_ls (fun v => decide (v ∈ z_bv z f c)) 1000
theorem b_val_lt {N : Nat} (row : Nat → Nat) (ap : Nat → Nat → Nat → Nat) {M : Nat} (hr : ∀ i, i < M → row i < N) (ha : ∀ k a b, 1 ≤ k → k < M → a < N → b < N → ap k a b < N) : ∀ (f i n : Nat), i + n ≤ M → 1 ≤ n → ∀ v ∈ b_val row ap f i n, v < N
  | 0, i, n, hi, h1, v, hv => by simp [b_val] at hv
  | f + 1, i, n, hi, h1, v, hv => by
    rw [b_val] at hv
    split at hv
    · rw [List.mem_singleton] at hv
      rw [hv]; exact hr i (by omega)
    · simp only [List.mem_flatMap, List.mem_map, List.mem_range] at hv
      obtain ⟨l, hl, a, ha', b, hb, rfl⟩ := hv
      exact ha _ _ _ (by omega) (by omega) (b_val_lt row ap hr ha f i (l + 1) (by omega) (by omega) a ha') (b_val_lt row ap hr ha f (i + l + 1) (n - l - 1) (by omega) (by omega) b hb)
theorem z_tri {f c s : Nat} (h1 : f + c ≤ s) (h2 : 1 ≤ c) : f * (s + 1) + c < s * (s + 1) := by
  have h3 : (f + 1) * (s + 1) ≤ s * (s + 1) := Nat.mul_le_mul_right _ (by omega)
  rw [Nat.succ_mul] at h3
  omega
theorem z_tri_inj {f c f' c' s : Nat} (h1 : c ≤ s) (h2 : c' ≤ s) (h : f * (s + 1) + c = f' * (s + 1) + c') : f = f' ∧ c = c' := by
  have e : c = c' := by
    have := congrArg (· % (s + 1)) h
    simp only [Nat.add_comm _ c, Nat.add_comm _ c', Nat.add_mul_mod_self_right] at this
    rwa [Nat.mod_eq_of_lt (by omega), Nat.mod_eq_of_lt (by omega)] at this
  subst e
  have h4 : f * (s + 1) = f' * (s + 1) := by omega
  exact ⟨Nat.eq_of_mul_eq_mul_right (by omega) h4, rfl⟩
/-- the lists that are found -/
def LT (Ev : rb_E) (w : Nat → Option va_E) (q2 size lo : Nat) (V : Nat → Nat → List Nat) (C : Nat → Nat → Prop) : Prop := ∃ yl : Nat → Option Nat, w q2 = some (.inl (eA Ev 8, size * (size + 1), aQ yl)) ∧ ∀ f c, C f c → f + c ≤ size → 1 ≤ c → ∃ r, yl (f * (size + 1) + c) = some r ∧ lo ≤ r ∧ LI Ev w r (V f c)
theorem LT.fr {V : Nat → Nat → List Nat} {C : Nat → Nat → Prop} {lo : Nat} (t : LT Ev (rd Ev h) q2 size lo V C) (D : Dm Ev n h) (F : Frm Ev n [q1] h h') (h1 : q1 < lo) (h2 : q1 ≠ q2) : LT Ev (rd Ev h') q2 size lo V C := by
  obtain ⟨yl, e, hy⟩ := t
  refine ⟨yl, F.get (D.lt e) (by simp; omega) e, fun f c h3 h4 h5 => ?_⟩
  obtain ⟨r, e1, e2, g, e3, e4⟩ := hy f c h3 h4 h5
  exact ⟨r, e1, e2, g, F.get (D.lt e3) (by simp; omega) e3, e4⟩
theorem x12_find_3 (hp : rb_pf Ev) (hoq : eK Ev q1 = none) {r2 : Nat} {L2 : List Nat} (l2 : LI Ev (rd Ev hS) r2 L2) (hlt : r2 < n) (hq1 : q1 < n) (hne : r2 ≠ q1) (hL2 : ∀ a ∈ L2, a < 1000) (hl : L2.length ≤ 1000) {rec : Int32 → AH → Nat → Option (Unit × AH × Nat × Nat)} {Q : Unit × AH × Nat × Nat → Prop} {y10 a m : Nat} (ha : a < 1000) (hm : m < 6) : ∀ (rs : List Nat) (i fu : Nat) (h : AH) (T : Nat → Prop), L2.drop i = rs → i ≤ L2.length → rs.length < fu → Dm Ev n h → Frm Ev n [q1] hS h → FA Ev (rd Ev h) q1 T → (∀ h2, Dm Ev n h2 → Frm Ev n [q1] hS h2 → FA Ev (rd Ev h2) q1 (fun v => T v ∨ ∃ b ∈ rs, v = z_ap m a b) → Ok (rec (nI (y10 + 1)) h2 n) Q) → Ok (f_X12_find_l131_50 Ev q1 (eN Ev m) (nI y10) rec (nI a) r2 L2.length fu (nI i) h n) Q := by
  intro rs
  induction rs with
  | nil =>
    intro i fu h T hd hi hf D F f hrec
    cases fu with
    | zero => omega
    | succ fu =>
      unfold f_X12_find_l131_50
      refine ok_pos (nI_le (drop_nil' hd) (by omega)) ?_
      rw [nI_1]
      exact hrec h D F (f.congr fun j hj => by simp)
  | cons c rs ih =>
    intro i fu h T hd hi hf D F f hrec
    cases fu with
    | zero => omega
    | succ fu =>
      have hxx := drop_cons hd
      have hc := hL2 c (List.mem_of_getElem? hxx.1)
      obtain ⟨g, e, hg⟩ := l2
      obtain ⟨y, ey, hy⟩ := f
      have hw := z_ap_lt (m := m) ha hc
      unfold f_X12_find_l131_50
      refine ok_neg (nI_ge hxx.2.2 (by omega)) ?_
      refine ok_il (F.get hlt (by simp; omega) e) rfl hxx.2.2 (by omega) ?_
      rw [hg i c hxx.1]
      refine ok_eq (hp_en_k hp hm) ?_
      rw [f_enap_ok _ _ hm ha hc]
      refine ok_zs (z := 1) hoq ey rfl hw (by omega) (by decide) ?_
      rw [nI_1]
      simp only [List.length_cons] at hf
      refine ih (i + 1) fu _ (fun v => T v ∨ v = z_ap m a c) hxx.2.1 hxx.2.2 (by omega) (Dm.up hoq hq1 D) (Frm.up (by simp) F) ⟨_, rd_self _ _ _ _, fun j hj => ?_⟩ fun h2 D2 F2 f2 => hrec h2 D2 F2 (f2.congr fun j hj => ?_)
      · simp only [upd]
        by_cases c1 : j = z_ap m a c
        · rw [if_pos c1]; exact Or.inl ⟨Or.inr c1, rfl⟩
        · rw [if_neg c1]
          rcases hy j hj with ⟨k1, k2⟩ | ⟨k1, k2⟩
          · exact Or.inl ⟨Or.inl k1, k2⟩
          · exact Or.inr ⟨fun hh => hh.elim k1 c1, k2⟩
      · simp only [List.mem_cons, exists_eq_or_imp, or_assoc]
theorem x12_find_2 (hp : rb_pf Ev) (hoq : eK Ev q1 = none) {r1 r2 i0 c left lo : Nat} {V : Nat → Nat → List Nat} {C : Nat → Nat → Prop} {L1 : List Nat} (l1 : LI Ev (rd Ev hS) r1 L1) (hlt : r1 < n) (hq1 : q1 < n) (hne : r1 ≠ q1) (hL1 : ∀ a ∈ L1, a < 1000) (hl : L1.length ≤ 1000) (DS : Dm Ev n hS) (t : LT Ev (rd Ev hS) q2 size lo V C) (hlo : q1 < lo) (hqq : q1 ≠ q2) (hs8 : size ≤ 8) (hic : i0 + c ≤ size) (h1 : 1 ≤ left) (hlc : left < c) (hC : C (i0 + left) (c - left)) (hV : ∀ a ∈ V (i0 + left) (c - left), a < 1000) (hVl : (V (i0 + left) (c - left)).length ≤ 1000) {rec : Int32 → AH → Nat → Option (Unit × AH × Nat × Nat)} {Q : Unit × AH × Nat × Nat → Prop} {m : Nat} (hm : m < 6) : ∀ (rs : List Nat) (i fu : Nat) (h : AH) (T : Nat → Prop), L1.drop i = rs → i ≤ L1.length → rs.length < fu → Dm Ev n h → Frm Ev n [q1] hS h → FA Ev (rd Ev h) q1 T → (∀ h2, Dm Ev n h2 → Frm Ev n [q1] hS h2 → FA Ev (rd Ev h2) q1 (fun v => T v ∨ ∃ a ∈ rs, ∃ b ∈ V (i0 + left) (c - left), v = z_ap m a b) → Ok (rec (nI (left + 1)) h2 n) Q) → Ok (f_X12_find_l92_42 Ev q1 q2 (nI i0) (nI c) (nI size) (nI left) rec (eN Ev m) r1 L1.length fu (nI i) h n) Q := by
  intro rs
  induction rs with
  | nil =>
    intro i fu h T hd hi hf D F f hrec
    cases fu with
    | zero => omega
    | succ fu =>
      unfold f_X12_find_l92_42
      refine ok_pos (nI_le (drop_nil' hd) (by omega)) ?_
      rw [nI_1]
      exact hrec h D F (f.congr fun j hj => by simp)
  | cons a rs ih =>
    intro i fu h T hd hi hf D F f hrec
    cases fu with
    | zero => omega
    | succ fu =>
      have hxx := drop_cons hd
      have ha := hL1 a (List.mem_of_getElem? hxx.1)
      obtain ⟨g, e, hg⟩ := l1
      have t' := t
      obtain ⟨yl, el, hyl⟩ := t'
      obtain ⟨r2, e1, e2, l2⟩ := hyl (i0 + left) (c - left) hC (by omega) (by omega)
      have l20 := l2
      obtain ⟨g2, e3, -⟩ := l20
      have hr2 := DS.lt e3
      have hix := z_tri (f := i0 + left) (c := c - left) (s := size) (by omega) (by omega)
      have hix2 : size * (size + 1) ≤ 72 := Nat.le_trans (Nat.mul_le_mul hs8 (Nat.succ_le_succ hs8)) (by omega)
      have hsub : (i0 + left) * (size + 1) + c - left = (i0 + left) * (size + 1) + (c - left) := by omega
      simp only [List.length_cons] at hf
      unfold f_X12_find_l92_42
      refine ok_neg (nI_ge hxx.2.2 (by omega)) ?_
      refine ok_il (F.get hlt (by simp; omega) e) rfl hxx.2.2 (by omega) ?_
      rw [hg i a hxx.1]
      refine ok_ap (F.get (DS.lt el) (by simp; omega) el) (by rw [nI_add, nI_1, pk_mul, nI_add, pk_sub (by omega), hsub]) hix (by omega) e1 ?_
      refine ok_len (F.get hr2 (by simp; omega) e3) ?_
      refine x12_find_3 hp hoq l2 hr2 hq1 (by omega) hV hVl ha hm _ 0 4096 h T rfl (by omega) (by rw [List.drop_zero]; omega) D F f fun h2 D2 F2 f2 => ?_
      refine ih (i + 1) fu h2 _ hxx.2.1 hxx.2.2 (by omega) D2 F2 f2 fun h3 D3 F3 f3 => hrec h3 D3 F3 (f3.congr fun j hj => ?_)
      simp only [List.mem_cons, exists_eq_or_imp, or_assoc, List.drop_zero]
end ROW5
