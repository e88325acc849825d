set_option maxRecDepth 100000
set_option linter.unusedVariables false
theorem b_mk_fuel {α : Type} (ap : Nat → α → α → α) : ∀ (f : Nat) (th : List α) (sg : List Nat) (k : Nat), th.length ≤ f → sg.length + 1 = th.length → b_mk ap (f + 1) th sg k = b_mk ap f th sg k
  | 0, th, sg, k, h1, h2 => by omega
  | f + 1, th, sg, k, h1, h2 => by
    rw [b_mk, b_mk]
    congr 1
    refine l_fmc fun j hj => ?_
    rw [List.mem_range] at hj
    have hl := b_red_len ap th sg (k + j) (by omega) (by omega)
    have he : (sg.eraseIdx (k + j)).length = sg.length - 1 := List.length_eraseIdx_of_lt (by omega)
    exact b_mk_fuel ap f _ _ _ (by omega) (by omega)
theorem b_mk_30 {α : Type} (ap : Nat → α → α → α) (th : List α) (sg : List Nat) (k : Nat) (h1 : th.length ≤ 9) (h2 : sg.length + 1 = th.length) : ∀ d, b_mk ap (9 + d) th sg k = b_mk ap 9 th sg k
  | 0 => rfl
  | d + 1 => by rw [← Nat.add_assoc, b_mk_fuel ap (9 + d) th sg k (by omega) h2, b_mk_30 ap th sg k h1 h2 d]
section ROW9
variable {Ev : rb_E} {h h0 h' hB hS : AH} {n n0 nB o m x p pe b bv q1 q2 q v co cap hd sh size : Nat} {L A B : List Nat} {st : Zst} {cs : List Nat} {β : Type} {P : β → Prop} {z : Zs} {Gr : Int32} {Md : Int64} {ft : Nat → Int32} {fg : Nat → Option Nat}
theorem mm_erase {mm : Nat → Nat} {sg : List Nat} (h : ∀ k ∈ sg, mm k < 6) (p : Nat) : ∀ k ∈ sg.eraseIdx p, mm k < 6 := fun k hk => h k (List.mem_of_mem_eraseIdx hk)
theorem b_red_lt {ap : Nat → Nat → Nat → Nat} {mm : Nat → Nat} (hap : ∀ k a b, ap k a b = z_ap (mm k) a b) {th sg : List Nat} {p : Nat} (h1 : p < sg.length) (h2 : p + 1 < th.length) (hlt : ∀ a ∈ th, a < 1000) : ∀ a ∈ b_red ap th sg p, a < 1000 := by
  intro w hw
  obtain ⟨i, hi⟩ := List.mem_iff_getElem?.mp hw
  obtain ⟨s, hs⟩ : ∃ s, sg[p]? = some s := ⟨_, List.getElem?_eq_getElem (by omega)⟩
  obtain ⟨a, ha⟩ : ∃ a, th[p]? = some a := ⟨_, List.getElem?_eq_getElem (by omega)⟩
  obtain ⟨c, hc⟩ : ∃ c, th[p + 1]? = some c := ⟨_, List.getElem?_eq_getElem (by omega)⟩
  rw [b_red_get ap th sg p i a c s hs ha hc] at hi
  split at hi
  · exact hlt _ (List.mem_of_getElem? hi)
  · split at hi
    · cases hi
      rw [hap]
      exact z_ap_lt (hlt _ (List.mem_of_getElem? ha)) (hlt _ (List.mem_of_getElem? hc))
    · exact hlt _ (List.mem_of_getElem? hi)
/-- what making leaves -/
def MkQ (Ev : rb_E) (n0 : Nat) (h0 : AH) (x : Nat) (A B : List Nat) (n lv : Nat) (ft : Nat → Int32) (fg : Nat → Option Nat) (Gr : Int32) (Md : Int64) (l : List Nat) : Unit → AH → Nat → Nat → Prop := fun _ h' k s => 0 = k ∧ 0 = s ∧ ∃ ft' fg', RB Ev n0 h0 x A B (g_mx Gr l) (g_ct Md l.length) ft' fg' n h' ∧ EG Ev fg' ∧ Lo (8 * (lv + 1)) ft ft' fg fg'
theorem x12_mk_loop (hp : rb_pf Ev) {d : Nat} {mm : Nat → Nat} {ap : Nat → Nat → Nat → Nat} (hap : ∀ k a b, ap k a b = z_ap (mm k) a b) (hA : A.length ≤ 8) (IH : ∀ (lv fr : Nat) (h : AH) (ft : Nat → Int32) (fg : Nat → Option Nat) (Gr : Int32) (Md : Int64) (th sg : List Nat), fr < 2 ^ 30 → th.length ≤ d → lv + th.length = A.length → sg.length + 1 = th.length → TH ft lv th → SG Ev mm fg lv sg → EG Ev fg → (∀ a ∈ th, a < 1000) → (∀ k ∈ sg, mm k < 6) → RB Ev n0 h0 x A B Gr Md ft fg n h → Ok (f_Y12_make Ev d h n n0 (nI lv) (nI fr)) (Pm 0 0 (MkQ Ev n0 h0 x A B n lv ft fg Gr Md (b_mk ap d th sg fr)))) {lv : Nat} {ft : Nat → Int32} {fg : Nat → Option Nat} {th sg : List Nat} (hd : th.length ≤ d + 1) (hsz : lv + th.length = A.length) (hsg : sg.length + 1 = th.length) (hth : TH ft lv th) (hsgs : SG Ev mm fg lv sg) (hlt : ∀ a ∈ th, a < 1000) (hmm : ∀ k ∈ sg, mm k < 6) : ∀ (e place fu : Nat) (h : AH) (ft1 : Nat → Int32) (fg1 : Nat → Option Nat) (Gr : Int32) (Md : Int64), e = th.length - 1 - place → place < 2 ^ 30 → e < fu → EG Ev fg1 → Lo (8 * (lv + 1)) ft ft1 fg fg1 → RB Ev n0 h0 x A B Gr Md ft1 fg1 n h → Ok (f_Y12_make_l58_10 Ev n0 (nI lv) (f_Y12_make Ev d) (nI A.length) fu (nI place) h n) (Pm 0 0 (MkQ Ev n0 h0 x A B n lv ft fg Gr Md (b_lp (fun p => b_mk ap d (b_red ap th sg p) (sg.eraseIdx p) (p - 1)) e place))) := by
  intro e
  induction e with
  | zero =>
    intro place fu h ft1 fg1 Gr Md he hpl hf hE hLo R
    cases fu with
    | zero => omega
    | succ fu =>
      unfold f_Y12_make_l58_10
      rw [show (1 : Int32) = nI 1 from rfl, pk_sub (show lv ≤ A.length by omega), pk_sub (show 1 ≤ A.length - lv by omega)]
      refine ok_pos (nI_le (by omega) (by omega)) ?_
      exact ok_end ⟨rfl, rfl, ft1, fg1, R, hE, hLo⟩
  | succ e ih =>
    intro place fu h ft1 fg1 Gr Md he hpl hf hE hLo R
    cases fu with
    | zero => omega
    | succ fu =>
      unfold f_Y12_make_l58_10
      rw [show (1 : Int32) = nI 1 from rfl, pk_sub (show lv ≤ A.length by omega), pk_sub (show 1 ≤ A.length - lv by omega)]
      refine ok_neg (nI_ge (by omega) (by omega)) ?_
      have hl := b_red_len ap th sg place (by omega) (by omega)
      have hel : (sg.eraseIdx place).length = sg.length - 1 := List.length_eraseIdx_of_lt (by omega)
      refine x12_mk_copy hp hsz hA hsg (by omega) hth hsgs hlt hmm hap (fun h2 ft2 fg2 R2 hE2 hLo2 hth2 hsg2 => ?_) (th.length - 1) 0 4096 h ft1 fg1 (by omega) (by omega) R hE hLo (fun i hi => by omega)
      refine ok_cx (IH (lv + 1) (place - 1) h2 ft2 fg2 Gr Md (b_red ap th sg place) (sg.eraseIdx place) (by omega) (by omega) (by omega) (by omega) hth2 hsg2 hE2 (b_red_lt hap (by omega) (by omega) hlt) (mm_erase hmm place) R2) fun r3 h3 k3 s3 hQ => ?_
      obtain ⟨rfl, rfl, ft3, fg3, R3, hE3, hLo3⟩ := hQ
      dsimp only
      refine ok_ad ?_
      have hLo4 : Lo (8 * (lv + 1)) ft ft3 fg fg3 := fun j hj => ⟨(hLo3 j (by omega)).1.trans (hLo2 j hj).1, (hLo3 j (by omega)).2.trans (hLo2 j hj).2⟩
      obtain ⟨t4, ht4, hQ4⟩ := ih (place + 1) fu h3 ft3 fg3 _ _ (by omega) (by omega) (by omega) hE3 hLo4 R3
      refine ⟨t4, ht4, ?_⟩
      obtain ⟨r5, h5, k5, s5⟩ := t4
      simp only [Pm, MkQ, Nat.zero_add, Nat.add_zero] at hQ4 ⊢
      obtain ⟨w1, w2, ft5, fg5, w3, w4, w5⟩ := hQ4
      refine ⟨w1, w2, ft5, fg5, ?_, w4, w5⟩
      rw [b_lp, g_mx_app, List.length_append, g_ct_add]
      exact w3
theorem x12_make (hp : rb_pf Ev) {mm : Nat → Nat} {ap : Nat → Nat → Nat → Nat} (hap : ∀ k a b, ap k a b = z_ap (mm k) a b) (hA : A.length ≤ 8) : ∀ (d lv fr : Nat) (h : AH) (ft : Nat → Int32) (fg : Nat → Option Nat) (Gr : Int32) (Md : Int64) (th sg : List Nat), fr < 2 ^ 30 → th.length ≤ d → lv + th.length = A.length → sg.length + 1 = th.length → TH ft lv th → SG Ev mm fg lv sg → EG Ev fg → (∀ a ∈ th, a < 1000) → (∀ k ∈ sg, mm k < 6) → RB Ev n0 h0 x A B Gr Md ft fg n h → Ok (f_Y12_make Ev d h n n0 (nI lv) (nI fr)) (Pm 0 0 (MkQ Ev n0 h0 x A B n lv ft fg Gr Md (b_mk ap d th sg fr))) := by
  intro d
  induction d with
  | zero => intro lv fr h ft fg Gr Md th sg hfr hd hsz hsg; omega
  | succ d IH =>
    intro lv fr h ft fg Gr Md th sg hfr hd hsz hsg hth hsgs hE hlt hmm R
    have R0 := R
    obtain ⟨D, F0, hn, ho, e0, ⟨v1, cap1, v2, cap2, t1, -⟩, -⟩ := R0
    have t10 := t1
    obtain ⟨f1, hm1, e11, e12, -⟩ := t1
    have hmain : ∀ (h2 : AH) (Gr2 : Int32) (Md2 : Int64), RB Ev n0 h0 x A B Gr2 Md2 ft fg n h2 → Ok (f_Y12_make_j55_9 Ev n0 (nI lv) (nI fr) (f_Y12_make Ev d) (nI A.length) h2 n) (Pm 0 0 (MkQ Ev n0 h0 x A B n lv ft fg Gr2 Md2 (b_lp (fun p => b_mk ap d (b_red ap th sg p) (sg.eraseIdx p) (p - 1)) (th.length - 1 - fr) fr))) := by
      intro h2 Gr2 Md2 R2
      unfold f_Y12_make_j55_9
      exact x12_mk_loop hp hap hA IH hd hsz hsg hth hsgs hlt hmm (th.length - 1 - fr) fr 4096 h2 ft fg Gr2 Md2 rfl hfr (by omega) hE (fun j _ => ⟨rfl, rfl⟩) R2
    unfold f_Y12_make
    (repeat (first | ((with_reducible apply ok_i); (focus ((repeat (first | (with_reducible assumption) | (with_reducible exact rd_self _ _ _ _) | (with_reducible refine rd_ne (by omega) ?_) | (with_reducible refine Frm.get (by with_reducible assumption) (by omega) (by (simp only [List.mem_cons, List.not_mem_nil, or_false, not_or, not_false_eq_true]; (first | done | omega))) ?_))); done)); exact rfl) | ((with_reducible apply ok_p); (focus ((repeat (first | (with_reducible assumption) | (with_reducible exact rd_self _ _ _ _) | (with_reducible refine rd_ne (by omega) ?_) | (with_reducible refine Frm.get (by with_reducible assumption) (by omega) (by (simp only [List.mem_cons, List.not_mem_nil, or_false, not_or, not_false_eq_true]; (first | done | omega))) ?_))); done)); exact rfl) | ((with_reducible apply ok_k); (focus ((repeat (first | (with_reducible assumption) | (with_reducible exact rd_self _ _ _ _) | (with_reducible refine rd_ne (by omega) ?_) | (with_reducible refine Frm.get (by with_reducible assumption) (by omega) (by (simp only [List.mem_cons, List.not_mem_nil, or_false, not_or, not_false_eq_true]; (first | done | omega))) ?_))); done))) | ((with_reducible apply ok_len); (focus ((repeat (first | (with_reducible assumption) | (with_reducible exact rd_self _ _ _ _) | (with_reducible refine rd_ne (by omega) ?_) | (with_reducible refine Frm.get (by with_reducible assumption) (by omega) (by (simp only [List.mem_cons, List.not_mem_nil, or_false, not_or, not_false_eq_true]; (first | done | omega))) ?_))); done))) | (with_reducible apply ok_lt) | (with_reducible apply ok_ad) | ((with_reducible apply ok_put); (first | (with_reducible assumption) | exact D.ow (by omega) | exact hO _ (by omega)); (focus ((repeat (first | (with_reducible assumption) | (with_reducible exact rd_self _ _ _ _) | (with_reducible refine rd_ne (by omega) ?_) | (with_reducible refine Frm.get (by with_reducible assumption) (by omega) (by (simp only [List.mem_cons, List.not_mem_nil, or_false, not_or, not_false_eq_true]; (first | done | omega))) ?_))); done)); exact Nat.le_of_ble_eq_true rfl) | ((with_reducible apply ok_cls); (focus ((repeat (first | (with_reducible assumption) | (with_reducible exact rd_self _ _ _ _) | (with_reducible refine rd_ne (by omega) ?_) | (with_reducible refine Frm.get (by with_reducible assumption) (by omega) (by (simp only [List.mem_cons, List.not_mem_nil, or_false, not_or, not_false_eq_true]; (first | done | omega))) ?_))); done))) | ((with_reducible apply ok_ca); (focus ((repeat (first | (with_reducible assumption) | (with_reducible exact rd_self _ _ _ _) | (with_reducible refine rd_ne (by omega) ?_) | (with_reducible refine Frm.get (by with_reducible assumption) (by omega) (by (simp only [List.mem_cons, List.not_mem_nil, or_false, not_or, not_false_eq_true]; (first | done | omega))) ?_))); done)); exact (by decide)) | ((with_reducible apply ok_isa1); (focus ((repeat (first | (with_reducible assumption) | (with_reducible exact rd_self _ _ _ _) | (with_reducible refine rd_ne (by omega) ?_) | (with_reducible refine Frm.get (by with_reducible assumption) (by omega) (by (simp only [List.mem_cons, List.not_mem_nil, or_false, not_or, not_false_eq_true]; (first | done | omega))) ?_))); done)); exact (by decide)) | ((with_reducible apply ok_isa0); (focus ((repeat (first | (with_reducible assumption) | (with_reducible exact rd_self _ _ _ _) | (with_reducible refine rd_ne (by omega) ?_) | (with_reducible refine Frm.get (by with_reducible assumption) (by omega) (by (simp only [List.mem_cons, List.not_mem_nil, or_false, not_or, not_false_eq_true]; (first | done | omega))) ?_))); done)); exact (by decide); exact (by decide)) | ((with_reducible apply ok_oS); (focus ((repeat (first | (with_reducible assumption) | (with_reducible exact rd_self _ _ _ _) | (with_reducible refine rd_ne (by omega) ?_) | (with_reducible refine Frm.get (by with_reducible assumption) (by omega) (by (simp only [List.mem_cons, List.not_mem_nil, or_false, not_or, not_false_eq_true]; (first | done | omega))) ?_))); done)); exact rfl) | ((with_reducible apply ok_oN); (focus ((repeat (first | (with_reducible assumption) | (with_reducible exact rd_self _ _ _ _) | (with_reducible refine rd_ne (by omega) ?_) | (with_reducible refine Frm.get (by with_reducible assumption) (by omega) (by (simp only [List.mem_cons, List.not_mem_nil, or_false, not_or, not_false_eq_true]; (first | done | omega))) ?_))); done)); exact rfl) | ((with_reducible apply ok_j); (focus ((repeat (first | (with_reducible assumption) | (with_reducible exact rd_self _ _ _ _) | (with_reducible refine rd_ne (by omega) ?_) | (with_reducible refine Frm.get (by with_reducible assumption) (by omega) (by (simp only [List.mem_cons, List.not_mem_nil, or_false, not_or, not_false_eq_true]; (first | done | omega))) ?_))); done)); exact rfl)))
    refine ok_eq (j1_length t10) ?_
    have hlp : (List.range (th.length - 1 - fr)).flatMap (fun j => b_mk ap d (b_red ap th sg (fr + j)) (sg.eraseIdx (fr + j)) (fr + j - 1)) = b_lp (fun p => b_mk ap d (b_red ap th sg p) (sg.eraseIdx p) (p - 1)) (th.length - 1 - fr) fr := b_lp_eq (fun p => b_mk ap d (b_red ap th sg p) (sg.eraseIdx p) (p - 1)) (th.length - 1 - fr) fr
    rw [pk_sub (show lv ≤ A.length by omega), b_mk, hlp]
    by_cases c1 : th.length = 1
    · refine ok_pos (by rw [show A.length - lv = 1 by omega]; rfl) ?_
      obtain ⟨a, rfl⟩ : ∃ a, th = [a] := by
        cases th with
        | nil => simp at c1
        | cons a r => cases r with
          | nil => exact ⟨a, rfl⟩
          | cons b r => simp at c1
      rw [if_pos c1]
      have ha := hth 0 a rfl
      rw [Nat.add_zero] at ha
      (repeat (first | ((with_reducible apply ok_i); (focus ((repeat (first | (with_reducible assumption) | (with_reducible exact rd_self _ _ _ _) | (with_reducible refine rd_ne (by omega) ?_) | (with_reducible refine Frm.get (by with_reducible assumption) (by omega) (by (simp only [List.mem_cons, List.not_mem_nil, or_false, not_or, not_false_eq_true]; (first | done | omega))) ?_))); done)); exact rfl) | ((with_reducible apply ok_p); (focus ((repeat (first | (with_reducible assumption) | (with_reducible exact rd_self _ _ _ _) | (with_reducible refine rd_ne (by omega) ?_) | (with_reducible refine Frm.get (by with_reducible assumption) (by omega) (by (simp only [List.mem_cons, List.not_mem_nil, or_false, not_or, not_false_eq_true]; (first | done | omega))) ?_))); done)); exact rfl) | ((with_reducible apply ok_k); (focus ((repeat (first | (with_reducible assumption) | (with_reducible exact rd_self _ _ _ _) | (with_reducible refine rd_ne (by omega) ?_) | (with_reducible refine Frm.get (by with_reducible assumption) (by omega) (by (simp only [List.mem_cons, List.not_mem_nil, or_false, not_or, not_false_eq_true]; (first | done | omega))) ?_))); done))) | ((with_reducible apply ok_len); (focus ((repeat (first | (with_reducible assumption) | (with_reducible exact rd_self _ _ _ _) | (with_reducible refine rd_ne (by omega) ?_) | (with_reducible refine Frm.get (by with_reducible assumption) (by omega) (by (simp only [List.mem_cons, List.not_mem_nil, or_false, not_or, not_false_eq_true]; (first | done | omega))) ?_))); done))) | (with_reducible apply ok_lt) | (with_reducible apply ok_ad) | ((with_reducible apply ok_put); (first | (with_reducible assumption) | exact D.ow (by omega) | exact hO _ (by omega)); (focus ((repeat (first | (with_reducible assumption) | (with_reducible exact rd_self _ _ _ _) | (with_reducible refine rd_ne (by omega) ?_) | (with_reducible refine Frm.get (by with_reducible assumption) (by omega) (by (simp only [List.mem_cons, List.not_mem_nil, or_false, not_or, not_false_eq_true]; (first | done | omega))) ?_))); done)); exact Nat.le_of_ble_eq_true rfl) | ((with_reducible apply ok_cls); (focus ((repeat (first | (with_reducible assumption) | (with_reducible exact rd_self _ _ _ _) | (with_reducible refine rd_ne (by omega) ?_) | (with_reducible refine Frm.get (by with_reducible assumption) (by omega) (by (simp only [List.mem_cons, List.not_mem_nil, or_false, not_or, not_false_eq_true]; (first | done | omega))) ?_))); done))) | ((with_reducible apply ok_ca); (focus ((repeat (first | (with_reducible assumption) | (with_reducible exact rd_self _ _ _ _) | (with_reducible refine rd_ne (by omega) ?_) | (with_reducible refine Frm.get (by with_reducible assumption) (by omega) (by (simp only [List.mem_cons, List.not_mem_nil, or_false, not_or, not_false_eq_true]; (first | done | omega))) ?_))); done)); exact (by decide)) | ((with_reducible apply ok_isa1); (focus ((repeat (first | (with_reducible assumption) | (with_reducible exact rd_self _ _ _ _) | (with_reducible refine rd_ne (by omega) ?_) | (with_reducible refine Frm.get (by with_reducible assumption) (by omega) (by (simp only [List.mem_cons, List.not_mem_nil, or_false, not_or, not_false_eq_true]; (first | done | omega))) ?_))); done)); exact (by decide)) | ((with_reducible apply ok_isa0); (focus ((repeat (first | (with_reducible assumption) | (with_reducible exact rd_self _ _ _ _) | (with_reducible refine rd_ne (by omega) ?_) | (with_reducible refine Frm.get (by with_reducible assumption) (by omega) (by (simp only [List.mem_cons, List.not_mem_nil, or_false, not_or, not_false_eq_true]; (first | done | omega))) ?_))); done)); exact (by decide); exact (by decide)) | ((with_reducible apply ok_oS); (focus ((repeat (first | (with_reducible assumption) | (with_reducible exact rd_self _ _ _ _) | (with_reducible refine rd_ne (by omega) ?_) | (with_reducible refine Frm.get (by with_reducible assumption) (by omega) (by (simp only [List.mem_cons, List.not_mem_nil, or_false, not_or, not_false_eq_true]; (first | done | omega))) ?_))); done)); exact rfl) | ((with_reducible apply ok_oN); (focus ((repeat (first | (with_reducible assumption) | (with_reducible exact rd_self _ _ _ _) | (with_reducible refine rd_ne (by omega) ?_) | (with_reducible refine Frm.get (by with_reducible assumption) (by omega) (by (simp only [List.mem_cons, List.not_mem_nil, or_false, not_or, not_false_eq_true]; (first | done | omega))) ?_))); done)); exact rfl) | ((with_reducible apply ok_j); (focus ((repeat (first | (with_reducible assumption) | (with_reducible exact rd_self _ _ _ _) | (with_reducible refine rd_ne (by omega) ?_) | (with_reducible refine Frm.get (by with_reducible assumption) (by omega) (by (simp only [List.mem_cons, List.not_mem_nil, or_false, not_or, not_false_eq_true]; (first | done | omega))) ?_))); done)); exact rfl)))
      refine R.putM fun h2 R2 => ?_
      have e02 := R2.eo
      have et2 := R2.t
      (repeat (first | ((with_reducible apply ok_i); (focus ((repeat (first | (with_reducible assumption) | (with_reducible exact rd_self _ _ _ _) | (with_reducible refine rd_ne (by omega) ?_) | (with_reducible refine Frm.get (by with_reducible assumption) (by omega) (by (simp only [List.mem_cons, List.not_mem_nil, or_false, not_or, not_false_eq_true]; (first | done | omega))) ?_))); done)); exact rfl) | ((with_reducible apply ok_p); (focus ((repeat (first | (with_reducible assumption) | (with_reducible exact rd_self _ _ _ _) | (with_reducible refine rd_ne (by omega) ?_) | (with_reducible refine Frm.get (by with_reducible assumption) (by omega) (by (simp only [List.mem_cons, List.not_mem_nil, or_false, not_or, not_false_eq_true]; (first | done | omega))) ?_))); done)); exact rfl) | ((with_reducible apply ok_k); (focus ((repeat (first | (with_reducible assumption) | (with_reducible exact rd_self _ _ _ _) | (with_reducible refine rd_ne (by omega) ?_) | (with_reducible refine Frm.get (by with_reducible assumption) (by omega) (by (simp only [List.mem_cons, List.not_mem_nil, or_false, not_or, not_false_eq_true]; (first | done | omega))) ?_))); done))) | ((with_reducible apply ok_len); (focus ((repeat (first | (with_reducible assumption) | (with_reducible exact rd_self _ _ _ _) | (with_reducible refine rd_ne (by omega) ?_) | (with_reducible refine Frm.get (by with_reducible assumption) (by omega) (by (simp only [List.mem_cons, List.not_mem_nil, or_false, not_or, not_false_eq_true]; (first | done | omega))) ?_))); done))) | (with_reducible apply ok_lt) | (with_reducible apply ok_ad) | ((with_reducible apply ok_put); (first | (with_reducible assumption) | exact D.ow (by omega) | exact hO _ (by omega)); (focus ((repeat (first | (with_reducible assumption) | (with_reducible exact rd_self _ _ _ _) | (with_reducible refine rd_ne (by omega) ?_) | (with_reducible refine Frm.get (by with_reducible assumption) (by omega) (by (simp only [List.mem_cons, List.not_mem_nil, or_false, not_or, not_false_eq_true]; (first | done | omega))) ?_))); done)); exact Nat.le_of_ble_eq_true rfl) | ((with_reducible apply ok_cls); (focus ((repeat (first | (with_reducible assumption) | (with_reducible exact rd_self _ _ _ _) | (with_reducible refine rd_ne (by omega) ?_) | (with_reducible refine Frm.get (by with_reducible assumption) (by omega) (by (simp only [List.mem_cons, List.not_mem_nil, or_false, not_or, not_false_eq_true]; (first | done | omega))) ?_))); done))) | ((with_reducible apply ok_ca); (focus ((repeat (first | (with_reducible assumption) | (with_reducible exact rd_self _ _ _ _) | (with_reducible refine rd_ne (by omega) ?_) | (with_reducible refine Frm.get (by with_reducible assumption) (by omega) (by (simp only [List.mem_cons, List.not_mem_nil, or_false, not_or, not_false_eq_true]; (first | done | omega))) ?_))); done)); exact (by decide)) | ((with_reducible apply ok_isa1); (focus ((repeat (first | (with_reducible assumption) | (with_reducible exact rd_self _ _ _ _) | (with_reducible refine rd_ne (by omega) ?_) | (with_reducible refine Frm.get (by with_reducible assumption) (by omega) (by (simp only [List.mem_cons, List.not_mem_nil, or_false, not_or, not_false_eq_true]; (first | done | omega))) ?_))); done)); exact (by decide)) | ((with_reducible apply ok_isa0); (focus ((repeat (first | (with_reducible assumption) | (with_reducible exact rd_self _ _ _ _) | (with_reducible refine rd_ne (by omega) ?_) | (with_reducible refine Frm.get (by with_reducible assumption) (by omega) (by (simp only [List.mem_cons, List.not_mem_nil, or_false, not_or, not_false_eq_true]; (first | done | omega))) ?_))); done)); exact (by decide); exact (by decide)) | ((with_reducible apply ok_oS); (focus ((repeat (first | (with_reducible assumption) | (with_reducible exact rd_self _ _ _ _) | (with_reducible refine rd_ne (by omega) ?_) | (with_reducible refine Frm.get (by with_reducible assumption) (by omega) (by (simp only [List.mem_cons, List.not_mem_nil, or_false, not_or, not_false_eq_true]; (first | done | omega))) ?_))); done)); exact rfl) | ((with_reducible apply ok_oN); (focus ((repeat (first | (with_reducible assumption) | (with_reducible exact rd_self _ _ _ _) | (with_reducible refine rd_ne (by omega) ?_) | (with_reducible refine Frm.get (by with_reducible assumption) (by omega) (by (simp only [List.mem_cons, List.not_mem_nil, or_false, not_or, not_false_eq_true]; (first | done | omega))) ?_))); done)); exact rfl) | ((with_reducible apply ok_j); (focus ((repeat (first | (with_reducible assumption) | (with_reducible exact rd_self _ _ _ _) | (with_reducible refine rd_ne (by omega) ?_) | (with_reducible refine Frm.get (by with_reducible assumption) (by omega) (by (simp only [List.mem_cons, List.not_mem_nil, or_false, not_or, not_false_eq_true]; (first | done | omega))) ?_))); done)); exact rfl)))
      refine ok_il (j := 8 * lv) et2 (by rw [show (8 : Int32) = nI 8 from rfl, pk_mul]) (by omega) (by omega) ?_
      rw [ha]
      refine R2.putG fun h3 R3 => ?_
      have := hmain h3 _ _ R3
      rw [show [a].length - 1 - fr = 0 by simp] at this ⊢
      exact this
    · refine ok_neg (fun hh => c1 ?_) ?_
      · have := (nI_c (a := A.length - lv) (b := 1) (by omega) (by omega)).mp hh
        omega
      · rw [if_neg c1, List.nil_append]
        exact hmain h Gr Md R
end ROW9
