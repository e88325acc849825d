set_option maxRecDepth 100000
set_option linter.unusedVariables false
/-! MAKING ALL BRACKETINGS -/
def g_mx (g : Int32) : List Nat → Int32
  | [] => g
  | a :: r => g_mx (if g < nI a then nI a else g) r
theorem g_mx_app (g : Int32) : ∀ (l l' : List Nat), g_mx g (l ++ l') = g_mx (g_mx g l) l'
  | [], l' => rfl
  | a :: l, l' => by rw [List.cons_append, g_mx, g_mx, g_mx_app]
def g_ct (m : Int64) : Nat → Int64
  | 0 => m
  | n + 1 => g_ct (m + 1) n
theorem g_ct_add (m : Int64) : ∀ (a b : Nat), g_ct m (a + b) = g_ct (g_ct m a) b
  | 0, b => by rw [Nat.zero_add, g_ct]
  | a + 1, b => by rw [show a + 1 + b = (a + b) + 1 by omega, g_ct, g_ct, g_ct_add (m + 1) a b]
def b_lp {α : Type} (F : Nat → List α) : Nat → Nat → List α
  | 0, _ => []
  | e + 1, p => F p ++ b_lp F e (p + 1)
theorem b_lp_eq {α : Type} (F : Nat → List α) : ∀ (e p : Nat), (List.range e).flatMap (fun j => F (p + j)) = b_lp F e p
  | 0, p => by simp [b_lp]
  | e + 1, p => by
    rw [List.range_succ_eq_map, List.flatMap_cons, List.flatMap_map, b_lp, ← b_lp_eq F e (p + 1)]
    congr 1
    congr 1
    funext j
    rw [show p + (j + 1) = p + 1 + j by omega]
theorem b_red_get {α : Type} (ap : Nat → α → α → α) : ∀ (th : List α) (sg : List Nat) (p i : Nat) (a b : α) (s : Nat), sg[p]? = some s → th[p]? = some a → th[p + 1]? = some b → (b_red ap th sg p)[i]? = if i < p then th[i]? else if i = p then some (ap s a b) else th[i + 1]?
  | x :: y :: r, s0 :: ss, 0, i, a, b, s, h1, h2, h3 => by
    simp only [List.getElem?_cons_zero, Option.some.injEq, Nat.zero_add, List.getElem?_cons_succ] at h1 h2 h3
    subst h1 h2 h3
    cases i with
    | zero => simp [b_red]
    | succ i => simp [b_red]
  | x :: r, s0 :: ss, p + 1, i, a, b, s, h1, h2, h3 => by
    simp only [List.getElem?_cons_succ] at h1 h2 h3
    cases i with
    | zero => simp [b_red]
    | succ i =>
      rw [b_red, List.getElem?_cons_succ, b_red_get ap r ss p i a b s h1 h2 h3]
      simp only [List.getElem?_cons_succ, Nat.add_lt_add_iff_right, Nat.add_right_cancel_iff]
  | [], sg, p, i, a, b, s, h1, h2, h3 => by simp at h2
  | [x], s0 :: ss, 0, i, a, b, s, h1, h2, h3 => by simp at h3
  | x :: r, [], p, i, a, b, s, h1, h2, h3 => by simp at h1
theorem b_red_len {α : Type} (ap : Nat → α → α → α) : ∀ (th : List α) (sg : List Nat) (p : Nat), p < sg.length → p + 1 < th.length → (b_red ap th sg p).length + 1 = th.length
  | x :: y :: r, s0 :: ss, 0, h1, h2 => by simp [b_red]
  | x :: r, s0 :: ss, p + 1, h1, h2 => by
    simp only [List.length_cons] at h1 h2
    have := b_red_len ap r ss p (by omega) (by omega)
    simp only [b_red, List.length_cons]
    omega
  | [], sg, p, h1, h2 => by simp at h2
  | [x], s0 :: ss, 0, h1, h2 => by simp at h2
  | x :: r, [], p, h1, h2 => by simp at h1
section ROW8
variable {Ev : rb_E} {h h0 h' hB hS : AH} {n n0 nB o m x p pe b bv q1 q2 q v co cap hd sh size : Nat} {L A B : List Nat} {st : Zst} {cs : List Nat} {β : Type} {P : β → Prop} {z : Zs} {Gr : Int32} {Md : Int64} {ft : Nat → Int32} {fg : Nat → Option Nat}
theorem RB.putM (R : RB Ev n0 h0 x A B Gr Md ft fg n h) {w : Int64} {F : AH → Option β} (g : ∀ h', RB Ev n0 h0 x A B Gr w ft fg n h' → Ok (F h') P) : Ok ((hp_put h n0 10 5 (.long w)).bind F) P := by
  obtain ⟨D, F0, hn, ho, e, ⟨v1, cap1, v2, cap2, t1, t2, g1, g2, g3, g4, g5⟩, e5, e6⟩ := R
  have l1 := t1.lt D
  have l2 := t2.lt D
  refine ok_put (ho n0 (Nat.le_refl _)) e (Nat.le_of_ble_eq_true rfl) (g _ ⟨Dm.up (ho n0 (Nat.le_refl _)) (by omega) D, Frm.up (Or.inl (Nat.le_refl _)) F0, hn, ho, rd_self _ _ _ _, ⟨v1, cap1, v2, cap2, t1.fr (m := n) (M := [n0]) (Frm.up (by simp) Frm.rf) l1.1 l1.2.1 (by simp) (by simp; omega), t2.fr (m := n) (M := [n0]) (Frm.up (by simp) Frm.rf) l2.1 l2.2.1 (by simp) (by simp; omega), g1, g2, g3, g4, g5⟩, rd_ne (by omega) e5, rd_ne (by omega) e6⟩)
theorem RB.putG (R : RB Ev n0 h0 x A B Gr Md ft fg n h) {w : Int32} {F : AH → Option β} (g : ∀ h', RB Ev n0 h0 x A B w Md ft fg n h' → Ok (F h') P) : Ok ((hp_put h n0 10 4 (.int w)).bind F) P := by
  obtain ⟨D, F0, hn, ho, e, ⟨v1, cap1, v2, cap2, t1, t2, g1, g2, g3, g4, g5⟩, e5, e6⟩ := R
  have l1 := t1.lt D
  have l2 := t2.lt D
  refine ok_put (ho n0 (Nat.le_refl _)) e (Nat.le_of_ble_eq_true rfl) (g _ ⟨Dm.up (ho n0 (Nat.le_refl _)) (by omega) D, Frm.up (Or.inl (Nat.le_refl _)) F0, hn, ho, rd_self _ _ _ _, ⟨v1, cap1, v2, cap2, t1.fr (m := n) (M := [n0]) (Frm.up (by simp) Frm.rf) l1.1 l1.2.1 (by simp) (by simp; omega), t2.fr (m := n) (M := [n0]) (Frm.up (by simp) Frm.rf) l2.1 l2.2.1 (by simp) (by simp; omega), g1, g2, g3, g4, g5⟩, rd_ne (by omega) e5, rd_ne (by omega) e6⟩)
theorem RB.is (R : RB Ev n0 h0 x A B Gr Md ft fg n h) {i w : Int32} {j : Nat} (hi : i = nI j) (hj : j < 72) {F : AH → Option β} (g : ∀ h', RB Ev n0 h0 x A B Gr Md (upd ft j w) fg n h' → Ok (F h') P) : Ok ((hp_is Ev h (n0 + 5) i w).bind F) P := by
  obtain ⟨D, F0, hn, ho, e, ⟨v1, cap1, v2, cap2, t1, t2, g1, g2, g3, g4, g5⟩, e5, e6⟩ := R
  have l1 := t1.lt D
  have l2 := t2.lt D
  refine ok_is (ho _ (by omega)) e5 hi hj (by omega) (g _ ⟨Dm.up (ho _ (by omega)) (by omega) D, Frm.up (Or.inl (by omega)) F0, hn, ho, rd_ne (by omega) e, ⟨v1, cap1, v2, cap2, t1.fr (m := n) (M := [n0 + 5]) (Frm.up (by simp) Frm.rf) l1.1 l1.2.1 (by simp) (by simp; omega), t2.fr (m := n) (M := [n0 + 5]) (Frm.up (by simp) Frm.rf) l2.1 l2.2.1 (by simp) (by simp; omega), g1, g2, g3, g4, g5⟩, rd_self _ _ _ _, rd_ne (by omega) e6⟩)
theorem RB.as (R : RB Ev n0 h0 x A B Gr Md ft fg n h) {i : Int32} {w : Option Nat} {j : Nat} (hi : i = nI j) (hj : j < 72) {F : AH → Option β} (g : ∀ h', RB Ev n0 h0 x A B Gr Md ft (va_up fg j w) n h' → Ok (F h') P) : Ok ((hp_as Ev h 7 (n0 + 6) i w).bind F) P := by
  obtain ⟨D, F0, hn, ho, e, ⟨v1, cap1, v2, cap2, t1, t2, g1, g2, g3, g4, g5⟩, e5, e6⟩ := R
  have l1 := t1.lt D
  have l2 := t2.lt D
  refine ok_as (ho _ (by omega)) e6 hi hj (by omega) (g _ ⟨Dm.up (ho _ (by omega)) (by omega) D, Frm.up (Or.inl (by omega)) F0, hn, ho, rd_ne (by omega) e, ⟨v1, cap1, v2, cap2, t1.fr (m := n) (M := [n0 + 6]) (Frm.up (by simp) Frm.rf) l1.1 l1.2.1 (by simp) (by simp; omega), t2.fr (m := n) (M := [n0 + 6]) (Frm.up (by simp) Frm.rf) l2.1 l2.2.1 (by simp) (by simp; omega), g1, g2, g3, g4, g5⟩, rd_ne (by omega) e5, rd_self _ _ _ _⟩)
theorem RB.eo (R : RB Ev n0 h0 x A B Gr Md ft fg n h) : rd Ev h n0 = some (.inr (10, [.ref (n0 + 1), .ref (n0 + 3), .ref (n0 + 5), .ref (n0 + 6), .int Gr, .long Md, .ref x])) := R.2.2.2.2.1
theorem RB.t (R : RB Ev n0 h0 x A B Gr Md ft fg n h) : rd Ev h (n0 + 5) = some (.inl (eA Ev 0, 72, .inl ft)) := R.2.2.2.2.2.2.1
theorem RB.g (R : RB Ev n0 h0 x A B Gr Md ft fg n h) : rd Ev h (n0 + 6) = some (.inl (eA Ev 7, 72, aQ fg)) := R.2.2.2.2.2.2.2
def TH (ft : Nat → Int32) (lv : Nat) (th : List Nat) : Prop := ∀ i a, th[i]? = some a → ft (8 * lv + i) = nI a
def SG (Ev : rb_E) (mm : Nat → Nat) (fg : Nat → Option Nat) (lv : Nat) (sg : List Nat) : Prop := ∀ i k, sg[i]? = some k → fg (8 * lv + i) = some (eN Ev (mm k))
def EG (Ev : rb_E) (fg : Nat → Option Nat) : Prop := ∀ j a, fg j = some a → ∃ k, k < 6 ∧ a = eN Ev k
/-- below a place two pairs of rows are the same -/
def Lo (k : Nat) (ft ft' : Nat → Int32) (fg fg' : Nat → Option Nat) : Prop := ∀ j, j < k → ft' j = ft j ∧ fg' j = fg j
theorem x12_mk_copy (hp : rb_pf Ev) {ft fg} {lv place : Nat} {th sg : List Nat} {mm : Nat → Nat} {ap : Nat → Nat → Nat → Nat} (hsz : lv + th.length = A.length) (hA : A.length ≤ 8) (hsg : sg.length + 1 = th.length) (hpl : place + 1 < th.length) (hth : TH ft lv th) (hsgs : SG Ev mm fg lv sg) (hlt : ∀ a ∈ th, a < 1000) (hmm : ∀ k ∈ sg, mm k < 6) (hap : ∀ k a b, ap k a b = z_ap (mm k) a b) {self_ : AH → Nat → Nat → Int32 → Int32 → Option (Unit × AH × Nat × Nat)} {rec : Int32 → AH → Nat → Option (Unit × AH × Nat × Nat)} {Q : Unit × AH × Nat × Nat → Prop} (hself : ∀ h2 ft2 fg2, RB Ev n0 h0 x A B Gr Md ft2 fg2 n h2 → EG Ev fg2 → Lo (8 * (lv + 1)) ft ft2 fg fg2 → TH ft2 (lv + 1) (b_red ap th sg place) → SG Ev mm fg2 (lv + 1) (sg.eraseIdx place) → Ok ((self_ h2 n n0 (nI (lv + 1)) (nI (place - 1))).bind fun (r, h3, k, s) => ad k s (rec (nI (place + 1)) h3 (n + k))) Q) : ∀ (e idx fu : Nat) (h : AH) (ft1 : Nat → Int32) (fg1 : Nat → Option Nat), idx + e + 1 = th.length → e < fu → RB Ev n0 h0 x A B Gr Md ft1 fg1 n h → EG Ev fg1 → Lo (8 * (lv + 1)) ft ft1 fg fg1 → (∀ i, i < idx → ft1 (8 * (lv + 1) + i) = ft (8 * lv + i + if place < i then 1 else 0) ∧ fg1 (8 * (lv + 1) + i) = fg (8 * lv + i + if i < place then 0 else 1)) → Ok (f_Y12_make_l70_12 Ev n0 (nI lv) self_ (nI A.length) (nI place) rec fu (nI idx) h n) Q := by
  intro e
  induction e with
  | zero =>
    intro idx fu h ft1 fg1 hi hf R hE hLo hcp
    cases fu with
    | zero => omega
    | succ fu =>
      have e0 := R.eo
      have et := R.t
      have eg := R.g
      obtain ⟨s, hs⟩ : ∃ s, sg[place]? = some s := ⟨_, List.getElem?_eq_getElem (by omega)⟩
      obtain ⟨a, ha⟩ : ∃ a, th[place]? = some a := ⟨_, List.getElem?_eq_getElem (by omega)⟩
      obtain ⟨c, hc⟩ : ∃ c, th[place + 1]? = some c := ⟨_, List.getElem?_eq_getElem (by omega)⟩
      have ha3 := hlt a (List.mem_of_getElem? ha)
      have hc3 := hlt c (List.mem_of_getElem? hc)
      have hm6 := hmm s (List.mem_of_getElem? hs)
      unfold f_Y12_make_l70_12
      rw [show (1 : Int32) = nI 1 from rfl, show (8 : Int32) = nI 8 from rfl, pk_sub (show lv ≤ A.length by omega), pk_sub (show 1 ≤ A.length - lv by omega)]
      refine ok_pos (nI_le (by omega) (by omega)) ?_
      (repeat (first | ((with_reducible apply ok_i); (focus ((repeat (first | (with_reducible assumption) | (with_reducible exact rd_self _ _ _ _) | (with_reducible refine rd_ne (by omega) ?_) | (with_reducible refine Frm.get (by with_reducible assumption) (by omega) (by (simp only [List.mem_cons, List.not_mem_nil, or_false, not_or, not_false_eq_true]; (first | done | omega))) ?_))); done)); exact rfl) | ((with_reducible apply ok_p); (focus ((repeat (first | (with_reducible assumption) | (with_reducible exact rd_self _ _ _ _) | (with_reducible refine rd_ne (by omega) ?_) | (with_reducible refine Frm.get (by with_reducible assumption) (by omega) (by (simp only [List.mem_cons, List.not_mem_nil, or_false, not_or, not_false_eq_true]; (first | done | omega))) ?_))); done)); exact rfl) | ((with_reducible apply ok_k); (focus ((repeat (first | (with_reducible assumption) | (with_reducible exact rd_self _ _ _ _) | (with_reducible refine rd_ne (by omega) ?_) | (with_reducible refine Frm.get (by with_reducible assumption) (by omega) (by (simp only [List.mem_cons, List.not_mem_nil, or_false, not_or, not_false_eq_true]; (first | done | omega))) ?_))); done))) | ((with_reducible apply ok_len); (focus ((repeat (first | (with_reducible assumption) | (with_reducible exact rd_self _ _ _ _) | (with_reducible refine rd_ne (by omega) ?_) | (with_reducible refine Frm.get (by with_reducible assumption) (by omega) (by (simp only [List.mem_cons, List.not_mem_nil, or_false, not_or, not_false_eq_true]; (first | done | omega))) ?_))); done))) | (with_reducible apply ok_lt) | (with_reducible apply ok_ad) | ((with_reducible apply ok_put); (first | (with_reducible assumption) | exact D.ow (by omega) | exact hO _ (by omega)); (focus ((repeat (first | (with_reducible assumption) | (with_reducible exact rd_self _ _ _ _) | (with_reducible refine rd_ne (by omega) ?_) | (with_reducible refine Frm.get (by with_reducible assumption) (by omega) (by (simp only [List.mem_cons, List.not_mem_nil, or_false, not_or, not_false_eq_true]; (first | done | omega))) ?_))); done)); exact Nat.le_of_ble_eq_true rfl) | ((with_reducible apply ok_cls); (focus ((repeat (first | (with_reducible assumption) | (with_reducible exact rd_self _ _ _ _) | (with_reducible refine rd_ne (by omega) ?_) | (with_reducible refine Frm.get (by with_reducible assumption) (by omega) (by (simp only [List.mem_cons, List.not_mem_nil, or_false, not_or, not_false_eq_true]; (first | done | omega))) ?_))); done))) | ((with_reducible apply ok_ca); (focus ((repeat (first | (with_reducible assumption) | (with_reducible exact rd_self _ _ _ _) | (with_reducible refine rd_ne (by omega) ?_) | (with_reducible refine Frm.get (by with_reducible assumption) (by omega) (by (simp only [List.mem_cons, List.not_mem_nil, or_false, not_or, not_false_eq_true]; (first | done | omega))) ?_))); done)); exact (by decide)) | ((with_reducible apply ok_isa1); (focus ((repeat (first | (with_reducible assumption) | (with_reducible exact rd_self _ _ _ _) | (with_reducible refine rd_ne (by omega) ?_) | (with_reducible refine Frm.get (by with_reducible assumption) (by omega) (by (simp only [List.mem_cons, List.not_mem_nil, or_false, not_or, not_false_eq_true]; (first | done | omega))) ?_))); done)); exact (by decide)) | ((with_reducible apply ok_isa0); (focus ((repeat (first | (with_reducible assumption) | (with_reducible exact rd_self _ _ _ _) | (with_reducible refine rd_ne (by omega) ?_) | (with_reducible refine Frm.get (by with_reducible assumption) (by omega) (by (simp only [List.mem_cons, List.not_mem_nil, or_false, not_or, not_false_eq_true]; (first | done | omega))) ?_))); done)); exact (by decide); exact (by decide)) | ((with_reducible apply ok_oS); (focus ((repeat (first | (with_reducible assumption) | (with_reducible exact rd_self _ _ _ _) | (with_reducible refine rd_ne (by omega) ?_) | (with_reducible refine Frm.get (by with_reducible assumption) (by omega) (by (simp only [List.mem_cons, List.not_mem_nil, or_false, not_or, not_false_eq_true]; (first | done | omega))) ?_))); done)); exact rfl) | ((with_reducible apply ok_oN); (focus ((repeat (first | (with_reducible assumption) | (with_reducible exact rd_self _ _ _ _) | (with_reducible refine rd_ne (by omega) ?_) | (with_reducible refine Frm.get (by with_reducible assumption) (by omega) (by (simp only [List.mem_cons, List.not_mem_nil, or_false, not_or, not_false_eq_true]; (first | done | omega))) ?_))); done)); exact rfl) | ((with_reducible apply ok_j); (focus ((repeat (first | (with_reducible assumption) | (with_reducible exact rd_self _ _ _ _) | (with_reducible refine rd_ne (by omega) ?_) | (with_reducible refine Frm.get (by with_reducible assumption) (by omega) (by (simp only [List.mem_cons, List.not_mem_nil, or_false, not_or, not_false_eq_true]; (first | done | omega))) ?_))); done)); exact rfl)))
      refine ok_ap (j := 8 * lv + place) eg (by rw [pk_mul, nI_add]) (by omega) (by omega) ((hLo _ (by omega)).2.trans (hsgs _ _ hs)) ?_
      (repeat (first | ((with_reducible apply ok_i); (focus ((repeat (first | (with_reducible assumption) | (with_reducible exact rd_self _ _ _ _) | (with_reducible refine rd_ne (by omega) ?_) | (with_reducible refine Frm.get (by with_reducible assumption) (by omega) (by (simp only [List.mem_cons, List.not_mem_nil, or_false, not_or, not_false_eq_true]; (first | done | omega))) ?_))); done)); exact rfl) | ((with_reducible apply ok_p); (focus ((repeat (first | (with_reducible assumption) | (with_reducible exact rd_self _ _ _ _) | (with_reducible refine rd_ne (by omega) ?_) | (with_reducible refine Frm.get (by with_reducible assumption) (by omega) (by (simp only [List.mem_cons, List.not_mem_nil, or_false, not_or, not_false_eq_true]; (first | done | omega))) ?_))); done)); exact rfl) | ((with_reducible apply ok_k); (focus ((repeat (first | (with_reducible assumption) | (with_reducible exact rd_self _ _ _ _) | (with_reducible refine rd_ne (by omega) ?_) | (with_reducible refine Frm.get (by with_reducible assumption) (by omega) (by (simp only [List.mem_cons, List.not_mem_nil, or_false, not_or, not_false_eq_true]; (first | done | omega))) ?_))); done))) | ((with_reducible apply ok_len); (focus ((repeat (first | (with_reducible assumption) | (with_reducible exact rd_self _ _ _ _) | (with_reducible refine rd_ne (by omega) ?_) | (with_reducible refine Frm.get (by with_reducible assumption) (by omega) (by (simp only [List.mem_cons, List.not_mem_nil, or_false, not_or, not_false_eq_true]; (first | done | omega))) ?_))); done))) | (with_reducible apply ok_lt) | (with_reducible apply ok_ad) | ((with_reducible apply ok_put); (first | (with_reducible assumption) | exact D.ow (by omega) | exact hO _ (by omega)); (focus ((repeat (first | (with_reducible assumption) | (with_reducible exact rd_self _ _ _ _) | (with_reducible refine rd_ne (by omega) ?_) | (with_reducible refine Frm.get (by with_reducible assumption) (by omega) (by (simp only [List.mem_cons, List.not_mem_nil, or_false, not_or, not_false_eq_true]; (first | done | omega))) ?_))); done)); exact Nat.le_of_ble_eq_true rfl) | ((with_reducible apply ok_cls); (focus ((repeat (first | (with_reducible assumption) | (with_reducible exact rd_self _ _ _ _) | (with_reducible refine rd_ne (by omega) ?_) | (with_reducible refine Frm.get (by with_reducible assumption) (by omega) (by (simp only [List.mem_cons, List.not_mem_nil, or_false, not_or, not_false_eq_true]; (first | done | omega))) ?_))); done))) | ((with_reducible apply ok_ca); (focus ((repeat (first | (with_reducible assumption) | (with_reducible exact rd_self _ _ _ _) | (with_reducible refine rd_ne (by omega) ?_) | (with_reducible refine Frm.get (by with_reducible assumption) (by omega) (by (simp only [List.mem_cons, List.not_mem_nil, or_false, not_or, not_false_eq_true]; (first | done | omega))) ?_))); done)); exact (by decide)) | ((with_reducible apply ok_isa1); (focus ((repeat (first | (with_reducible assumption) | (with_reducible exact rd_self _ _ _ _) | (with_reducible refine rd_ne (by omega) ?_) | (with_reducible refine Frm.get (by with_reducible assumption) (by omega) (by (simp only [List.mem_cons, List.not_mem_nil, or_false, not_or, not_false_eq_true]; (first | done | omega))) ?_))); done)); exact (by decide)) | ((with_reducible apply ok_isa0); (focus ((repeat (first | (with_reducible assumption) | (with_reducible exact rd_self _ _ _ _) | (with_reducible refine rd_ne (by omega) ?_) | (with_reducible refine Frm.get (by with_reducible assumption) (by omega) (by (simp only [List.mem_cons, List.not_mem_nil, or_false, not_or, not_false_eq_true]; (first | done | omega))) ?_))); done)); exact (by decide); exact (by decide)) | ((with_reducible apply ok_oS); (focus ((repeat (first | (with_reducible assumption) | (with_reducible exact rd_self _ _ _ _) | (with_reducible refine rd_ne (by omega) ?_) | (with_reducible refine Frm.get (by with_reducible assumption) (by omega) (by (simp only [List.mem_cons, List.not_mem_nil, or_false, not_or, not_false_eq_true]; (first | done | omega))) ?_))); done)); exact rfl) | ((with_reducible apply ok_oN); (focus ((repeat (first | (with_reducible assumption) | (with_reducible exact rd_self _ _ _ _) | (with_reducible refine rd_ne (by omega) ?_) | (with_reducible refine Frm.get (by with_reducible assumption) (by omega) (by (simp only [List.mem_cons, List.not_mem_nil, or_false, not_or, not_false_eq_true]; (first | done | omega))) ?_))); done)); exact rfl) | ((with_reducible apply ok_j); (focus ((repeat (first | (with_reducible assumption) | (with_reducible exact rd_self _ _ _ _) | (with_reducible refine rd_ne (by omega) ?_) | (with_reducible refine Frm.get (by with_reducible assumption) (by omega) (by (simp only [List.mem_cons, List.not_mem_nil, or_false, not_or, not_false_eq_true]; (first | done | omega))) ?_))); done)); exact rfl)))
      refine ok_il (j := 8 * lv + place) et (by rw [pk_mul, nI_add]) (by omega) (by omega) ?_
      rw [(hLo (8 * lv + place) (by omega)).1, hth _ _ ha]
      (repeat (first | ((with_reducible apply ok_i); (focus ((repeat (first | (with_reducible assumption) | (with_reducible exact rd_self _ _ _ _) | (with_reducible refine rd_ne (by omega) ?_) | (with_reducible refine Frm.get (by with_reducible assumption) (by omega) (by (simp only [List.mem_cons, List.not_mem_nil, or_false, not_or, not_false_eq_true]; (first | done | omega))) ?_))); done)); exact rfl) | ((with_reducible apply ok_p); (focus ((repeat (first | (with_reducible assumption) | (with_reducible exact rd_self _ _ _ _) | (with_reducible refine rd_ne (by omega) ?_) | (with_reducible refine Frm.get (by with_reducible assumption) (by omega) (by (simp only [List.mem_cons, List.not_mem_nil, or_false, not_or, not_false_eq_true]; (first | done | omega))) ?_))); done)); exact rfl) | ((with_reducible apply ok_k); (focus ((repeat (first | (with_reducible assumption) | (with_reducible exact rd_self _ _ _ _) | (with_reducible refine rd_ne (by omega) ?_) | (with_reducible refine Frm.get (by with_reducible assumption) (by omega) (by (simp only [List.mem_cons, List.not_mem_nil, or_false, not_or, not_false_eq_true]; (first | done | omega))) ?_))); done))) | ((with_reducible apply ok_len); (focus ((repeat (first | (with_reducible assumption) | (with_reducible exact rd_self _ _ _ _) | (with_reducible refine rd_ne (by omega) ?_) | (with_reducible refine Frm.get (by with_reducible assumption) (by omega) (by (simp only [List.mem_cons, List.not_mem_nil, or_false, not_or, not_false_eq_true]; (first | done | omega))) ?_))); done))) | (with_reducible apply ok_lt) | (with_reducible apply ok_ad) | ((with_reducible apply ok_put); (first | (with_reducible assumption) | exact D.ow (by omega) | exact hO _ (by omega)); (focus ((repeat (first | (with_reducible assumption) | (with_reducible exact rd_self _ _ _ _) | (with_reducible refine rd_ne (by omega) ?_) | (with_reducible refine Frm.get (by with_reducible assumption) (by omega) (by (simp only [List.mem_cons, List.not_mem_nil, or_false, not_or, not_false_eq_true]; (first | done | omega))) ?_))); done)); exact Nat.le_of_ble_eq_true rfl) | ((with_reducible apply ok_cls); (focus ((repeat (first | (with_reducible assumption) | (with_reducible exact rd_self _ _ _ _) | (with_reducible refine rd_ne (by omega) ?_) | (with_reducible refine Frm.get (by with_reducible assumption) (by omega) (by (simp only [List.mem_cons, List.not_mem_nil, or_false, not_or, not_false_eq_true]; (first | done | omega))) ?_))); done))) | ((with_reducible apply ok_ca); (focus ((repeat (first | (with_reducible assumption) | (with_reducible exact rd_self _ _ _ _) | (with_reducible refine rd_ne (by omega) ?_) | (with_reducible refine Frm.get (by with_reducible assumption) (by omega) (by (simp only [List.mem_cons, List.not_mem_nil, or_false, not_or, not_false_eq_true]; (first | done | omega))) ?_))); done)); exact (by decide)) | ((with_reducible apply ok_isa1); (focus ((repeat (first | (with_reducible assumption) | (with_reducible exact rd_self _ _ _ _) | (with_reducible refine rd_ne (by omega) ?_) | (with_reducible refine Frm.get (by with_reducible assumption) (by omega) (by (simp only [List.mem_cons, List.not_mem_nil, or_false, not_or, not_false_eq_true]; (first | done | omega))) ?_))); done)); exact (by decide)) | ((with_reducible apply ok_isa0); (focus ((repeat (first | (with_reducible assumption) | (with_reducible exact rd_self _ _ _ _) | (with_reducible refine rd_ne (by omega) ?_) | (with_reducible refine Frm.get (by with_reducible assumption) (by omega) (by (simp only [List.mem_cons, List.not_mem_nil, or_false, not_or, not_false_eq_true]; (first | done | omega))) ?_))); done)); exact (by decide); exact (by decide)) | ((with_reducible apply ok_oS); (focus ((repeat (first | (with_reducible assumption) | (with_reducible exact rd_self _ _ _ _) | (with_reducible refine rd_ne (by omega) ?_) | (with_reducible refine Frm.get (by with_reducible assumption) (by omega) (by (simp only [List.mem_cons, List.not_mem_nil, or_false, not_or, not_false_eq_true]; (first | done | omega))) ?_))); done)); exact rfl) | ((with_reducible apply ok_oN); (focus ((repeat (first | (with_reducible assumption) | (with_reducible exact rd_self _ _ _ _) | (with_reducible refine rd_ne (by omega) ?_) | (with_reducible refine Frm.get (by with_reducible assumption) (by omega) (by (simp only [List.mem_cons, List.not_mem_nil, or_false, not_or, not_false_eq_true]; (first | done | omega))) ?_))); done)); exact rfl) | ((with_reducible apply ok_j); (focus ((repeat (first | (with_reducible assumption) | (with_reducible exact rd_self _ _ _ _) | (with_reducible refine rd_ne (by omega) ?_) | (with_reducible refine Frm.get (by with_reducible assumption) (by omega) (by (simp only [List.mem_cons, List.not_mem_nil, or_false, not_or, not_false_eq_true]; (first | done | omega))) ?_))); done)); exact rfl)))
      refine ok_il (j := 8 * lv + (place + 1)) et (by rw [pk_mul, nI_add, nI_add, Nat.add_assoc]) (by omega) (by omega) ?_
      rw [(hLo (8 * lv + (place + 1)) (by omega)).1, hth _ _ hc]
      refine ok_eq (hp_en_k hp hm6) ?_
      rw [f_enap_ok _ _ hm6 ha3 hc3]
      refine R.is (j := 8 * (lv + 1) + place) (by rw [pk_mul, nI_add, nI_add]; congr 1) (by omega) fun h2 R2 => ?_
      have e02 := R2.eo
      (repeat (first | ((with_reducible apply ok_i); (focus ((repeat (first | (with_reducible assumption) | (with_reducible exact rd_self _ _ _ _) | (with_reducible refine rd_ne (by omega) ?_) | (with_reducible refine Frm.get (by with_reducible assumption) (by omega) (by (simp only [List.mem_cons, List.not_mem_nil, or_false, not_or, not_false_eq_true]; (first | done | omega))) ?_))); done)); exact rfl) | ((with_reducible apply ok_p); (focus ((repeat (first | (with_reducible assumption) | (with_reducible exact rd_self _ _ _ _) | (with_reducible refine rd_ne (by omega) ?_) | (with_reducible refine Frm.get (by with_reducible assumption) (by omega) (by (simp only [List.mem_cons, List.not_mem_nil, or_false, not_or, not_false_eq_true]; (first | done | omega))) ?_))); done)); exact rfl) | ((with_reducible apply ok_k); (focus ((repeat (first | (with_reducible assumption) | (with_reducible exact rd_self _ _ _ _) | (with_reducible refine rd_ne (by omega) ?_) | (with_reducible refine Frm.get (by with_reducible assumption) (by omega) (by (simp only [List.mem_cons, List.not_mem_nil, or_false, not_or, not_false_eq_true]; (first | done | omega))) ?_))); done))) | ((with_reducible apply ok_len); (focus ((repeat (first | (with_reducible assumption) | (with_reducible exact rd_self _ _ _ _) | (with_reducible refine rd_ne (by omega) ?_) | (with_reducible refine Frm.get (by with_reducible assumption) (by omega) (by (simp only [List.mem_cons, List.not_mem_nil, or_false, not_or, not_false_eq_true]; (first | done | omega))) ?_))); done))) | (with_reducible apply ok_lt) | (with_reducible apply ok_ad) | ((with_reducible apply ok_put); (first | (with_reducible assumption) | exact D.ow (by omega) | exact hO _ (by omega)); (focus ((repeat (first | (with_reducible assumption) | (with_reducible exact rd_self _ _ _ _) | (with_reducible refine rd_ne (by omega) ?_) | (with_reducible refine Frm.get (by with_reducible assumption) (by omega) (by (simp only [List.mem_cons, List.not_mem_nil, or_false, not_or, not_false_eq_true]; (first | done | omega))) ?_))); done)); exact Nat.le_of_ble_eq_true rfl) | ((with_reducible apply ok_cls); (focus ((repeat (first | (with_reducible assumption) | (with_reducible exact rd_self _ _ _ _) | (with_reducible refine rd_ne (by omega) ?_) | (with_reducible refine Frm.get (by with_reducible assumption) (by omega) (by (simp only [List.mem_cons, List.not_mem_nil, or_false, not_or, not_false_eq_true]; (first | done | omega))) ?_))); done))) | ((with_reducible apply ok_ca); (focus ((repeat (first | (with_reducible assumption) | (with_reducible exact rd_self _ _ _ _) | (with_reducible refine rd_ne (by omega) ?_) | (with_reducible refine Frm.get (by with_reducible assumption) (by omega) (by (simp only [List.mem_cons, List.not_mem_nil, or_false, not_or, not_false_eq_true]; (first | done | omega))) ?_))); done)); exact (by decide)) | ((with_reducible apply ok_isa1); (focus ((repeat (first | (with_reducible assumption) | (with_reducible exact rd_self _ _ _ _) | (with_reducible refine rd_ne (by omega) ?_) | (with_reducible refine Frm.get (by with_reducible assumption) (by omega) (by (simp only [List.mem_cons, List.not_mem_nil, or_false, not_or, not_false_eq_true]; (first | done | omega))) ?_))); done)); exact (by decide)) | ((with_reducible apply ok_isa0); (focus ((repeat (first | (with_reducible assumption) | (with_reducible exact rd_self _ _ _ _) | (with_reducible refine rd_ne (by omega) ?_) | (with_reducible refine Frm.get (by with_reducible assumption) (by omega) (by (simp only [List.mem_cons, List.not_mem_nil, or_false, not_or, not_false_eq_true]; (first | done | omega))) ?_))); done)); exact (by decide); exact (by decide)) | ((with_reducible apply ok_oS); (focus ((repeat (first | (with_reducible assumption) | (with_reducible exact rd_self _ _ _ _) | (with_reducible refine rd_ne (by omega) ?_) | (with_reducible refine Frm.get (by with_reducible assumption) (by omega) (by (simp only [List.mem_cons, List.not_mem_nil, or_false, not_or, not_false_eq_true]; (first | done | omega))) ?_))); done)); exact rfl) | ((with_reducible apply ok_oN); (focus ((repeat (first | (with_reducible assumption) | (with_reducible exact rd_self _ _ _ _) | (with_reducible refine rd_ne (by omega) ?_) | (with_reducible refine Frm.get (by with_reducible assumption) (by omega) (by (simp only [List.mem_cons, List.not_mem_nil, or_false, not_or, not_false_eq_true]; (first | done | omega))) ?_))); done)); exact rfl) | ((with_reducible apply ok_j); (focus ((repeat (first | (with_reducible assumption) | (with_reducible exact rd_self _ _ _ _) | (with_reducible refine rd_ne (by omega) ?_) | (with_reducible refine Frm.get (by with_reducible assumption) (by omega) (by (simp only [List.mem_cons, List.not_mem_nil, or_false, not_or, not_false_eq_true]; (first | done | omega))) ?_))); done)); exact rfl)))
      have hpm : (if 0 < nI place - nI 1 then nI place - nI 1 else 0) = nI (place - 1) := by
        cases place with
        | zero => decide
        | succ p =>
          rw [pk_sub (by omega)]
          cases p with
          | zero => decide
          | succ p =>
            rw [if_pos]
            exact nI_lt (a := 0) (by omega) (by omega)
      rw [hpm, nI_add, nI_add]
      refine hself h2 _ _ R2 hE (fun j hj => ?_) (fun i w hw => ?_) (fun i k hk => ?_)
      · simp only [upd]
        rw [if_neg (by omega)]
        exact hLo j hj
      · rw [b_red_get ap th sg place i a c s hs ha hc] at hw
        simp only [upd]
        by_cases c1 : i = place
        · rw [if_pos (by rw [c1])]
          rw [if_neg (by omega), if_pos c1] at hw
          cases hw
          rw [hap]
        · rw [if_neg (by omega)]
          by_cases c2 : i < place
          · rw [if_pos c2] at hw
            rw [(hcp i (by omega)).1, if_neg (by omega)]
            exact hth _ _ hw
          · rw [if_neg c2, if_neg c1] at hw
            have := (List.getElem?_eq_some_iff.mp hw).1
            rw [(hcp i (by omega)).1, if_pos (by omega)]
            exact hth _ _ hw
      · have hl := (List.getElem?_eq_some_iff.mp hk).1
        rw [List.length_eraseIdx_of_lt (by omega)] at hl
        rw [List.getElem?_eraseIdx] at hk
        rw [(hcp i (by omega)).2]
        by_cases c2 : i < place
        · rw [if_pos c2] at hk
          rw [if_pos c2]
          exact hsgs _ _ hk
        · rw [if_neg c2] at hk
          rw [if_neg c2]
          exact hsgs _ _ hk
  | succ e ih =>
    intro idx fu h ft1 fg1 hi hf R hE hLo hcp
    cases fu with
    | zero => omega
    | succ fu =>
      have e0 := R.eo
      have et := R.t
      unfold f_Y12_make_l70_12
      rw [show (1 : Int32) = nI 1 from rfl, pk_sub (show lv ≤ A.length by omega), pk_sub (show 1 ≤ A.length - lv by omega)]
      refine ok_neg (nI_ge (by omega) (by omega)) ?_
      (repeat (first | ((with_reducible apply ok_i); (focus ((repeat (first | (with_reducible assumption) | (with_reducible exact rd_self _ _ _ _) | (with_reducible refine rd_ne (by omega) ?_) | (with_reducible refine Frm.get (by with_reducible assumption) (by omega) (by (simp only [List.mem_cons, List.not_mem_nil, or_false, not_or, not_false_eq_true]; (first | done | omega))) ?_))); done)); exact rfl) | ((with_reducible apply ok_p); (focus ((repeat (first | (with_reducible assumption) | (with_reducible exact rd_self _ _ _ _) | (with_reducible refine rd_ne (by omega) ?_) | (with_reducible refine Frm.get (by with_reducible assumption) (by omega) (by (simp only [List.mem_cons, List.not_mem_nil, or_false, not_or, not_false_eq_true]; (first | done | omega))) ?_))); done)); exact rfl) | ((with_reducible apply ok_k); (focus ((repeat (first | (with_reducible assumption) | (with_reducible exact rd_self _ _ _ _) | (with_reducible refine rd_ne (by omega) ?_) | (with_reducible refine Frm.get (by with_reducible assumption) (by omega) (by (simp only [List.mem_cons, List.not_mem_nil, or_false, not_or, not_false_eq_true]; (first | done | omega))) ?_))); done))) | ((with_reducible apply ok_len); (focus ((repeat (first | (with_reducible assumption) | (with_reducible exact rd_self _ _ _ _) | (with_reducible refine rd_ne (by omega) ?_) | (with_reducible refine Frm.get (by with_reducible assumption) (by omega) (by (simp only [List.mem_cons, List.not_mem_nil, or_false, not_or, not_false_eq_true]; (first | done | omega))) ?_))); done))) | (with_reducible apply ok_lt) | (with_reducible apply ok_ad) | ((with_reducible apply ok_put); (first | (with_reducible assumption) | exact D.ow (by omega) | exact hO _ (by omega)); (focus ((repeat (first | (with_reducible assumption) | (with_reducible exact rd_self _ _ _ _) | (with_reducible refine rd_ne (by omega) ?_) | (with_reducible refine Frm.get (by with_reducible assumption) (by omega) (by (simp only [List.mem_cons, List.not_mem_nil, or_false, not_or, not_false_eq_true]; (first | done | omega))) ?_))); done)); exact Nat.le_of_ble_eq_true rfl) | ((with_reducible apply ok_cls); (focus ((repeat (first | (with_reducible assumption) | (with_reducible exact rd_self _ _ _ _) | (with_reducible refine rd_ne (by omega) ?_) | (with_reducible refine Frm.get (by with_reducible assumption) (by omega) (by (simp only [List.mem_cons, List.not_mem_nil, or_false, not_or, not_false_eq_true]; (first | done | omega))) ?_))); done))) | ((with_reducible apply ok_ca); (focus ((repeat (first | (with_reducible assumption) | (with_reducible exact rd_self _ _ _ _) | (with_reducible refine rd_ne (by omega) ?_) | (with_reducible refine Frm.get (by with_reducible assumption) (by omega) (by (simp only [List.mem_cons, List.not_mem_nil, or_false, not_or, not_false_eq_true]; (first | done | omega))) ?_))); done)); exact (by decide)) | ((with_reducible apply ok_isa1); (focus ((repeat (first | (with_reducible assumption) | (with_reducible exact rd_self _ _ _ _) | (with_reducible refine rd_ne (by omega) ?_) | (with_reducible refine Frm.get (by with_reducible assumption) (by omega) (by (simp only [List.mem_cons, List.not_mem_nil, or_false, not_or, not_false_eq_true]; (first | done | omega))) ?_))); done)); exact (by decide)) | ((with_reducible apply ok_isa0); (focus ((repeat (first | (with_reducible assumption) | (with_reducible exact rd_self _ _ _ _) | (with_reducible refine rd_ne (by omega) ?_) | (with_reducible refine Frm.get (by with_reducible assumption) (by omega) (by (simp only [List.mem_cons, List.not_mem_nil, or_false, not_or, not_false_eq_true]; (first | done | omega))) ?_))); done)); exact (by decide); exact (by decide)) | ((with_reducible apply ok_oS); (focus ((repeat (first | (with_reducible assumption) | (with_reducible exact rd_self _ _ _ _) | (with_reducible refine rd_ne (by omega) ?_) | (with_reducible refine Frm.get (by with_reducible assumption) (by omega) (by (simp only [List.mem_cons, List.not_mem_nil, or_false, not_or, not_false_eq_true]; (first | done | omega))) ?_))); done)); exact rfl) | ((with_reducible apply ok_oN); (focus ((repeat (first | (with_reducible assumption) | (with_reducible exact rd_self _ _ _ _) | (with_reducible refine rd_ne (by omega) ?_) | (with_reducible refine Frm.get (by with_reducible assumption) (by omega) (by (simp only [List.mem_cons, List.not_mem_nil, or_false, not_or, not_false_eq_true]; (first | done | omega))) ?_))); done)); exact rfl) | ((with_reducible apply ok_j); (focus ((repeat (first | (with_reducible assumption) | (with_reducible exact rd_self _ _ _ _) | (with_reducible refine rd_ne (by omega) ?_) | (with_reducible refine Frm.get (by with_reducible assumption) (by omega) (by (simp only [List.mem_cons, List.not_mem_nil, or_false, not_or, not_false_eq_true]; (first | done | omega))) ?_))); done)); exact rfl)))
      have hk : ∀ (d2 : Nat) (h2 : AH) (ft2 : Nat → Int32), (d2 = if idx < place then 0 else 1) → RB Ev n0 h0 x A B Gr Md ft2 fg1 n h2 → ft2 = upd ft1 (8 * (lv + 1) + idx) (ft (8 * lv + idx + if place < idx then 1 else 0)) → Ok (f_Y12_make_j140_59 Ev (nI lv) (nI idx) n (f_Y12_make_l70_12 Ev n0 (nI lv) self_ (nI A.length) (nI place) rec fu) h2 (n0 + 6) (n0 + 6) (nI d2)) Q := by
        intro d2 h2 ft2 hd2 R2 hft2
        have hd21 : d2 ≤ 1 := by rw [hd2]; split <;> omega
        have fin : ∀ (w : Option Nat) (h3 : AH), w = fg1 (8 * lv + idx + d2) → RB Ev n0 h0 x A B Gr Md ft2 (va_up fg1 (8 * (lv + 1) + idx) w) n h3 → Ok (f_Y12_make_l70_12 Ev n0 (nI lv) self_ (nI A.length) (nI place) rec fu (nI (idx + 1)) h3 n) Q := by
          intro w h3 hw R3
          have hwf : w = fg (8 * lv + idx + if idx < place then 0 else 1) := by
            rw [hw, (hLo _ (by omega)).2, hd2]
          refine ih (idx + 1) fu h3 _ _ (by omega) (by omega) R3 (fun j a hj => ?_) (fun j hj => ?_) (fun i hi2 => ?_)
          · by_cases c1 : j = 8 * (lv + 1) + idx
            · subst c1
              rw [va_up_self] at hj
              exact hE _ a (hw ▸ hj)
            · rw [va_up_ne _ _ c1] at hj
              exact hE j a hj
          · rw [va_up_ne _ _ (by omega), hft2]
            simp only [upd]
            rw [if_neg (by omega)]
            exact hLo j hj
          · by_cases c1 : i = idx
            · subst c1
              rw [va_up_self, hft2]
              simp only [upd, if_true]
              exact ⟨trivial, hwf⟩
            · rw [va_up_ne _ _ (by omega), hft2]
              simp only [upd]
              rw [if_neg (by omega)]
              exact hcp i (by omega)
        have eg2 := R2.g
        have hix : (nI 8 * nI lv + nI idx + nI d2) = nI (8 * lv + idx + d2) := by rw [pk_mul, nI_add, nI_add]
        unfold f_Y12_make_j140_59
        rw [show (1 : Int32) = nI 1 from rfl, show (8 : Int32) = nI 8 from rfl]
        refine ok_ao eg2 hix (by omega) (by omega) ?_
        rw [nI_add]
        cases hw : fg1 (8 * lv + idx + d2) with
        | none =>
          dsimp only
          refine R2.as (j := 8 * (lv + 1) + idx) (by rw [pk_mul, nI_add, nI_add]; congr 1) (by omega) fun h3 R3 => fin none h3 hw.symm R3
        | some w =>
          obtain ⟨k, hk6, rfl⟩ := hE _ _ hw
          dsimp only
          refine ok_eq (hp_en_k hp hk6) ?_
          refine R2.as (j := 8 * (lv + 1) + idx) (by rw [pk_mul, nI_add, nI_add]; congr 1) (by omega) fun h3 R3 => fin (some _) h3 hw.symm R3
      have hj : ∀ (d1 : Nat), (d1 = if place < idx then 1 else 0) → Ok (f_Y12_make_j108_49 Ev n0 (nI lv) (nI place) (nI idx) h n (f_Y12_make_l70_12 Ev n0 (nI lv) self_ (nI A.length) (nI place) rec fu) (n0 + 5) (n0 + 5) (nI d1)) Q := by
        intro d1 hd1
        have hd11 : d1 ≤ 1 := by rw [hd1]; split <;> omega
        unfold f_Y12_make_j108_49
        rw [show (8 : Int32) = nI 8 from rfl]
        refine ok_il (j := 8 * lv + idx + d1) et (by rw [pk_mul, nI_add, nI_add]) (by omega) (by omega) ?_
        rw [(hLo (8 * lv + idx + d1) (by omega)).1]
        refine R.is (j := 8 * (lv + 1) + idx) (by rw [pk_mul, nI_add, nI_add]; congr 1) (by omega) fun h2 R2 => ?_
        have e02 := R2.eo
        (repeat (first | ((with_reducible apply ok_i); (focus ((repeat (first | (with_reducible assumption) | (with_reducible exact rd_self _ _ _ _) | (with_reducible refine rd_ne (by omega) ?_) | (with_reducible refine Frm.get (by with_reducible assumption) (by omega) (by (simp only [List.mem_cons, List.not_mem_nil, or_false, not_or, not_false_eq_true]; (first | done | omega))) ?_))); done)); exact rfl) | ((with_reducible apply ok_p); (focus ((repeat (first | (with_reducible assumption) | (with_reducible exact rd_self _ _ _ _) | (with_reducible refine rd_ne (by omega) ?_) | (with_reducible refine Frm.get (by with_reducible assumption) (by omega) (by (simp only [List.mem_cons, List.not_mem_nil, or_false, not_or, not_false_eq_true]; (first | done | omega))) ?_))); done)); exact rfl) | ((with_reducible apply ok_k); (focus ((repeat (first | (with_reducible assumption) | (with_reducible exact rd_self _ _ _ _) | (with_reducible refine rd_ne (by omega) ?_) | (with_reducible refine Frm.get (by with_reducible assumption) (by omega) (by (simp only [List.mem_cons, List.not_mem_nil, or_false, not_or, not_false_eq_true]; (first | done | omega))) ?_))); done))) | ((with_reducible apply ok_len); (focus ((repeat (first | (with_reducible assumption) | (with_reducible exact rd_self _ _ _ _) | (with_reducible refine rd_ne (by omega) ?_) | (with_reducible refine Frm.get (by with_reducible assumption) (by omega) (by (simp only [List.mem_cons, List.not_mem_nil, or_false, not_or, not_false_eq_true]; (first | done | omega))) ?_))); done))) | (with_reducible apply ok_lt) | (with_reducible apply ok_ad) | ((with_reducible apply ok_put); (first | (with_reducible assumption) | exact D.ow (by omega) | exact hO _ (by omega)); (focus ((repeat (first | (with_reducible assumption) | (with_reducible exact rd_self _ _ _ _) | (with_reducible refine rd_ne (by omega) ?_) | (with_reducible refine Frm.get (by with_reducible assumption) (by omega) (by (simp only [List.mem_cons, List.not_mem_nil, or_false, not_or, not_false_eq_true]; (first | done | omega))) ?_))); done)); exact Nat.le_of_ble_eq_true rfl) | ((with_reducible apply ok_cls); (focus ((repeat (first | (with_reducible assumption) | (with_reducible exact rd_self _ _ _ _) | (with_reducible refine rd_ne (by omega) ?_) | (with_reducible refine Frm.get (by with_reducible assumption) (by omega) (by (simp only [List.mem_cons, List.not_mem_nil, or_false, not_or, not_false_eq_true]; (first | done | omega))) ?_))); done))) | ((with_reducible apply ok_ca); (focus ((repeat (first | (with_reducible assumption) | (with_reducible exact rd_self _ _ _ _) | (with_reducible refine rd_ne (by omega) ?_) | (with_reducible refine Frm.get (by with_reducible assumption) (by omega) (by (simp only [List.mem_cons, List.not_mem_nil, or_false, not_or, not_false_eq_true]; (first | done | omega))) ?_))); done)); exact (by decide)) | ((with_reducible apply ok_isa1); (focus ((repeat (first | (with_reducible assumption) | (with_reducible exact rd_self _ _ _ _) | (with_reducible refine rd_ne (by omega) ?_) | (with_reducible refine Frm.get (by with_reducible assumption) (by omega) (by (simp only [List.mem_cons, List.not_mem_nil, or_false, not_or, not_false_eq_true]; (first | done | omega))) ?_))); done)); exact (by decide)) | ((with_reducible apply ok_isa0); (focus ((repeat (first | (with_reducible assumption) | (with_reducible exact rd_self _ _ _ _) | (with_reducible refine rd_ne (by omega) ?_) | (with_reducible refine Frm.get (by with_reducible assumption) (by omega) (by (simp only [List.mem_cons, List.not_mem_nil, or_false, not_or, not_false_eq_true]; (first | done | omega))) ?_))); done)); exact (by decide); exact (by decide)) | ((with_reducible apply ok_oS); (focus ((repeat (first | (with_reducible assumption) | (with_reducible exact rd_self _ _ _ _) | (with_reducible refine rd_ne (by omega) ?_) | (with_reducible refine Frm.get (by with_reducible assumption) (by omega) (by (simp only [List.mem_cons, List.not_mem_nil, or_false, not_or, not_false_eq_true]; (first | done | omega))) ?_))); done)); exact rfl) | ((with_reducible apply ok_oN); (focus ((repeat (first | (with_reducible assumption) | (with_reducible exact rd_self _ _ _ _) | (with_reducible refine rd_ne (by omega) ?_) | (with_reducible refine Frm.get (by with_reducible assumption) (by omega) (by (simp only [List.mem_cons, List.not_mem_nil, or_false, not_or, not_false_eq_true]; (first | done | omega))) ?_))); done)); exact rfl) | ((with_reducible apply ok_j); (focus ((repeat (first | (with_reducible assumption) | (with_reducible exact rd_self _ _ _ _) | (with_reducible refine rd_ne (by omega) ?_) | (with_reducible refine Frm.get (by with_reducible assumption) (by omega) (by (simp only [List.mem_cons, List.not_mem_nil, or_false, not_or, not_false_eq_true]; (first | done | omega))) ?_))); done)); exact rfl)))
        by_cases c1 : idx < place
        · refine ok_pos (nI_lt c1 (by omega)) ?_
          exact hk 0 h2 _ (by rw [if_pos c1]) R2 (by rw [hd1])
        · refine ok_neg (nI_nlt (by omega) (by omega)) ?_
          exact hk 1 h2 _ (by rw [if_neg c1]) R2 (by rw [hd1])
      by_cases c1 : idx ≤ place
      · refine ok_pos (nI_le c1 (by omega)) ?_
        exact hj 0 (by rw [if_neg (by omega)])
      · refine ok_neg (nI_ge (by omega) (by omega)) ?_
        exact hj 1 (by rw [if_pos (by omega)])
end ROW8
