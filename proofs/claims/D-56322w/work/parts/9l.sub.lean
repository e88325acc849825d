set_option maxRecDepth 100000
set_option linter.unusedVariables false
/-! indexOf(String) -/
def z_at (cs w : List Nat) (i : Nat) : Bool := (cs.drop i).take w.length == w
def z_sf (cs w : List Nat) : Nat → Nat → Option Nat
  | 0, _ => none
  | d + 1, i => if z_at cs w i then some i else z_sf cs w d (i + 1)
theorem z_at_iff (cs w : List Nat) (i : Nat) (hi : i + w.length ≤ cs.length) : z_at cs w i = true ↔ ∀ j, j < w.length → cs[i + j]? = w[j]? := by
  simp only [z_at, beq_iff_eq]
  constructor
  · intro h j hj
    rw [← h, List.getElem?_take, if_pos hj, List.getElem?_drop]
  · intro h
    apply List.ext_getElem?
    intro j
    rw [List.getElem?_take]
    split
    · next hj => rw [List.getElem?_drop]; exact h j hj
    · next hj => rw [List.getElem?_eq_none (by omega)]
section SUBS
variable {Ev : rb_E} {h : AH} {n q v q2 v2 : Nat} {cs w : List Nat} {f g : Nat → Int32}
theorem j11_s9 (e : rd Ev h v = some (.inl (eA Ev 1, cs.length, .inl f))) (hB : BY 0 cs f) (hl : cs.length ≤ 1000) (e2 : rd Ev h v2 = some (.inl (eA Ev 1, w.length, .inl g))) (hB2 : BY 0 w g) {rec : Int32 → Option Int32} {i : Nat} (hi : i + w.length ≤ cs.length) (hw : 1 ≤ w.length) {R : Int32} (hr : rec (nI (i + 1)) = some R) : ∀ (e k fu : Nat), k + e = w.length → e < fu → (∀ j, j < k → cs[i + j]? = w[j]?) → f_J11_indexOf_3_l76_9 Ev v v2 (nI w.length) h (nI i) rec fu (nI (i + k)) (nI k) = some (if z_at cs w (i) then nI (i) else R) := by
  have hend : (nI i + 1 + nI w.length - 1) = nI (i + w.length) := by
    rw [nI_1, nI_add, show (1 : Int32) = nI 1 from rfl, pk_sub (by omega)]
    congr 1; omega
  have hfin : ∀ k, (∀ j, j < k → cs[i + j]? = w[j]?) → k ≤ w.length → (k < w.length → cs[i + k]? ≠ w[k]?) → Ok (if nI (i + k) = nI (i + w.length) then some (nI i) else rec (nI i + 1)) (fun r => r = if z_at cs w (i) then nI (i) else R) := by
    intro k hm hk hne
    have hat := z_at_iff cs w (i) hi
    by_cases c : k = w.length
    · subst c
      refine ok_pos rfl (ok_some ?_)
      rw [if_pos (hat.mpr hm)]
    · refine ok_neg (fun hh => c ?_) ?_
      · have := (nI_eq (by omega) (by omega)).mp hh
        omega
      · rw [nI_1, hr]
        refine ok_some ?_
        rw [if_neg (fun hh => hne (by omega) (hat.mp hh k (by omega)))]
  intro e0
  induction e0 with
  | zero =>
    intro k fu hk hf hm
    cases fu with
    | zero => omega
    | succ fu =>
      apply Ok.val
      rw [f_J11_indexOf_3_l76_9, hend]
      refine ok_pos (nI_le (by omega) (by omega)) ?_
      exact hfin k hm (by omega) (fun hh => by omega)
  | succ e0 ih =>
    intro k fu hk hf hm
    cases fu with
    | zero => omega
    | succ fu =>
      obtain ⟨c, hc⟩ : ∃ c, cs[i + k]? = some c := ⟨_, List.getElem?_eq_getElem (by omega)⟩
      obtain ⟨d, hd⟩ : ∃ d, w[k]? = some d := ⟨_, List.getElem?_eq_getElem (by omega)⟩
      rcases hB.2 with ⟨-, h1, h2⟩ | ⟨h0, -, -⟩
      · rcases hB2.2 with ⟨-, g1, g2⟩ | ⟨g0, -, -⟩
        · apply Ok.val
          rw [f_J11_indexOf_3_l76_9, hend]
          refine ok_neg (nI_ge (by omega) (by omega)) ?_
          refine ok_bl e rfl (show i + k < cs.length by omega) (by omega) ?_
          refine ok_bl e2 rfl (show k < w.length by omega) (by omega) ?_
          rw [h2 _ c hc, g2 _ d hd]
          have hcl := h1 c (List.mem_of_getElem? hc)
          have hdl := g1 d (List.mem_of_getElem? hd)
          by_cases hcd : c = d
          · refine ok_pos (by rw [hcd]) ?_
            rw [nI_1, nI_1, show i + k + 1 = i + (k + 1) by omega, ih (k + 1) fu (by omega) (by omega) (fun j hj => by
              by_cases c1 : j = k
              · rw [c1, hc, hd, hcd]
              · exact hm j (by omega))]
            exact ok_some rfl
          · refine ok_neg (fun hh => hcd ((sb_inj hcl hdl).mp hh)) ?_
            exact hfin k hm (by omega) (fun _ hh => hcd (by
              rw [hc, hd] at hh
              exact Option.some.inj hh))
        · omega
      · omega
theorem j11_s34 (e : rd Ev h v = some (.inl (eA Ev 1, cs.length, .inl f))) (hB : BY 0 cs f) (hl : cs.length ≤ 1000) (e2 : rd Ev h v2 = some (.inl (eA Ev 1, w.length, .inl g))) (hB2 : BY 0 w g) {rec : Int32 → Option Int32} {i : Nat} (hi : (i + 1) + w.length ≤ cs.length) (hw : 1 ≤ w.length) {R : Int32} (hr : rec (nI ((i + 1) + 1)) = some R) : ∀ (e k fu : Nat), k + e = w.length → e < fu → (∀ j, j < k → cs[(i + 1) + j]? = w[j]?) → f_J11_indexOf_3_l76_34 Ev v v2 (nI w.length) h rec (nI i) fu (nI ((i + 1) + k)) (nI k) = some (if z_at cs w (i + 1) then nI (i + 1) else R) := by
  have hend : ((nI i + 1) + 1 + nI w.length - 1) = nI ((i + 1) + w.length) := by
    rw [nI_1, nI_1, nI_add, show (1 : Int32) = nI 1 from rfl, pk_sub (by omega)]
    congr 1; omega
  have hfin : ∀ k, (∀ j, j < k → cs[(i + 1) + j]? = w[j]?) → k ≤ w.length → (k < w.length → cs[(i + 1) + k]? ≠ w[k]?) → Ok (if nI ((i + 1) + k) = nI ((i + 1) + w.length) then some ((nI i + 1)) else rec ((nI i + 1) + 1)) (fun r => r = if z_at cs w (i + 1) then nI (i + 1) else R) := by
    intro k hm hk hne
    have hat := z_at_iff cs w (i + 1) hi
    by_cases c : k = w.length
    · subst c
      refine ok_pos rfl (ok_some ?_)
      rw [if_pos (hat.mpr hm), nI_1]
    · refine ok_neg (fun hh => c ?_) ?_
      · have := (nI_eq (by omega) (by omega)).mp hh
        omega
      · rw [nI_1, nI_1, hr]
        refine ok_some ?_
        rw [if_neg (fun hh => hne (by omega) (hat.mp hh k (by omega)))]
  intro e0
  induction e0 with
  | zero =>
    intro k fu hk hf hm
    cases fu with
    | zero => omega
    | succ fu =>
      apply Ok.val
      rw [f_J11_indexOf_3_l76_34, hend]
      refine ok_pos (nI_le (by omega) (by omega)) ?_
      exact hfin k hm (by omega) (fun hh => by omega)
  | succ e0 ih =>
    intro k fu hk hf hm
    cases fu with
    | zero => omega
    | succ fu =>
      obtain ⟨c, hc⟩ : ∃ c, cs[(i + 1) + k]? = some c := ⟨_, List.getElem?_eq_getElem (by omega)⟩
      obtain ⟨d, hd⟩ : ∃ d, w[k]? = some d := ⟨_, List.getElem?_eq_getElem (by omega)⟩
      rcases hB.2 with ⟨-, h1, h2⟩ | ⟨h0, -, -⟩
      · rcases hB2.2 with ⟨-, g1, g2⟩ | ⟨g0, -, -⟩
        · apply Ok.val
          rw [f_J11_indexOf_3_l76_34, hend]
          refine ok_neg (nI_ge (by omega) (by omega)) ?_
          refine ok_bl e rfl (show (i + 1) + k < cs.length by omega) (by omega) ?_
          refine ok_bl e2 rfl (show k < w.length by omega) (by omega) ?_
          rw [h2 _ c hc, g2 _ d hd]
          have hcl := h1 c (List.mem_of_getElem? hc)
          have hdl := g1 d (List.mem_of_getElem? hd)
          by_cases hcd : c = d
          · refine ok_pos (by rw [hcd]) ?_
            rw [nI_1, nI_1, show (i + 1) + k + 1 = (i + 1) + (k + 1) by omega, ih (k + 1) fu (by omega) (by omega) (fun j hj => by
              by_cases c1 : j = k
              · rw [c1, hc, hd, hcd]
              · exact hm j (by omega))]
            exact ok_some rfl
          · refine ok_neg (fun hh => hcd ((sb_inj hcl hdl).mp hh)) ?_
            exact hfin k hm (by omega) (fun _ hh => hcd (by
              rw [hc, hd] at hh
              exact Option.some.inj hh))
        · omega
      · omega
theorem j11_sub (e : rd Ev h v = some (.inl (eA Ev 1, cs.length, .inl f))) (hB : BY 0 cs f) (hl : cs.length ≤ 1000) (e2 : rd Ev h v2 = some (.inl (eA Ev 1, w.length, .inl g))) (hB2 : BY 0 w g) (hw : 1 ≤ w.length) (hwl : w.length ≤ cs.length) {w0 : Nat} (hw0 : w[0]? = some w0) : ∀ (d : Nat), (∀ i fu, i + d = cs.length - w.length + 1 → d < fu → f_J11_indexOf_3_l14_3 Ev v (nI cs.length) v2 (nI w.length) h (sb_b w0) fu (nI i) = some (oN (z_sf cs w d i))) ∧ ∀ i fu fu2, i + 1 + d = cs.length - w.length + 1 → d < fu → d < fu2 → f_J11_indexOf_3_l30_18 Ev v (nI cs.length) v2 (nI w.length) h (sb_b w0) (f_J11_indexOf_3_l14_3 Ev v (nI cs.length) v2 (nI w.length) h (sb_b w0) fu) fu2 (nI i) = some (oN (z_sf cs w d (i + 1))) := by
  have hsub : nI cs.length - nI w.length = nI (cs.length - w.length) := pk_sub hwl
  rcases hB.2 with ⟨-, h1, h2⟩ | ⟨h0, -, -⟩
  · rcases hB2.2 with ⟨-, g1, g2⟩ | ⟨g0, -, -⟩
    · have hw0l := g1 w0 (List.mem_of_getElem? hw0)
      have hno : ∀ i c, i + w.length ≤ cs.length → cs[i]? = some c → c ≠ w0 → z_at cs w i = false := by
        intro i c hi hc hne
        cases hz : z_at cs w i
        · rfl
        · have := (z_at_iff cs w i hi).mp hz 0 (by omega)
          rw [Nat.add_zero, hc, hw0] at this
          exact absurd (Option.some.inj this) hne
      intro d
      induction d with
      | zero =>
        refine ⟨fun i fu hi hf => ?_, fun i fu fu2 hi hf hf2 => ?_⟩
        · cases fu with
          | zero => omega
          | succ fu =>
            rw [f_J11_indexOf_3_l14_3, hsub, if_pos (nI_lt (by omega) (by omega))]
            rfl
        · cases fu2 with
          | zero => omega
          | succ fu2 =>
            cases fu with
            | zero => omega
            | succ fu =>
              rw [f_J11_indexOf_3_l30_18, hsub, nI_1, if_pos (nI_lt (by omega) (by omega)), if_pos (nI_lt (by omega) (by omega)), f_J11_indexOf_3_l14_3, hsub, nI_1, if_pos (nI_lt (by omega) (by omega))]
              rfl
      | succ d ih =>
        refine ⟨fun i fu hi hf => ?_, fun i fu fu2 hi hf hf2 => ?_⟩
        · cases fu with
          | zero => omega
          | succ fu =>
            obtain ⟨c, hc⟩ : ∃ c, cs[i]? = some c := ⟨_, List.getElem?_eq_getElem (by omega)⟩
            have hcl := h1 c (List.mem_of_getElem? hc)
            apply Ok.val
            rw [f_J11_indexOf_3_l14_3, hsub]
            refine ok_neg (nI_nlt (by omega) (by omega)) ?_
            refine ok_bl e rfl (show i < cs.length by omega) (by omega) ?_
            rw [h2 _ c hc]
            by_cases hcd : c = w0
            · refine ok_pos (by rw [hcd]) ?_
              refine ok_neg (nI_nlt (by omega) (by omega)) ?_
              rw [nI_1, show (1 : Int32) = nI 1 from rfl, j11_s9 e hB hl e2 hB2 (i := i) (by omega) hw (ih.1 (i + 1) fu (by omega) (by omega)) (w.length - 1) 1 4096 (by omega) (by omega) (fun j hj => by
                rw [show j = 0 by omega, Nat.add_zero, hc, hw0, hcd])]
              refine ok_some ?_
              rw [z_sf]
              split <;> rfl
            · refine ok_neg (fun hh => hcd ((sb_inj hcl hw0l).mp hh)) ?_
              rw [ih.2 i fu 4096 (by omega) (by omega) (by omega)]
              refine ok_some ?_
              rw [z_sf, hno i c (by omega) hc hcd]
              rfl
        · cases fu2 with
          | zero => omega
          | succ fu2 =>
            obtain ⟨c, hc⟩ : ∃ c, cs[i + 1]? = some c := ⟨_, List.getElem?_eq_getElem (by omega)⟩
            have hcl := h1 c (List.mem_of_getElem? hc)
            apply Ok.val
            rw [f_J11_indexOf_3_l30_18, hsub, nI_1]
            refine ok_neg (nI_nlt (by omega) (by omega)) ?_
            refine ok_bl e rfl (show i + 1 < cs.length by omega) (by omega) ?_
            rw [h2 _ c hc]
            by_cases hcd : c = w0
            · refine ok_pos (by rw [hcd]) ?_
              refine ok_neg (nI_nlt (by omega) (by omega)) ?_
              rw [nI_1, show (1 : Int32) = nI 1 from rfl, j11_s34 e hB hl e2 hB2 (i := i) (by omega) hw (ih.1 (i + 1 + 1) fu (by omega) (by omega)) (w.length - 1) 1 4096 (by omega) (by omega) (fun j hj => by
                rw [show j = 0 by omega, Nat.add_zero, hc, hw0, hcd])]
              refine ok_some ?_
              rw [z_sf]
              split <;> rfl
            · refine ok_neg (fun hh => hcd ((sb_inj hcl hw0l).mp hh)) ?_
              rw [ih.2 (i + 1) fu fu2 (by omega) (by omega) (by omega)]
              refine ok_some ?_
              rw [z_sf, hno (i + 1) c (by omega) hc hcd]
              rfl
    · omega
  · omega
/-- where a text first lies in another -/
theorem j2_indexOf_3 (t : TX Ev (rd Ev h) q v 0 cs) (t2 : TX Ev (rd Ev h) q2 v2 0 w) (hw : 1 ≤ w.length) (hwl : w.length ≤ cs.length) : f_J2_indexOf_3 Ev h q q2 = some (oN (z_sf cs w (cs.length - w.length + 1) 0)) := by
  have t0 := t
  have t20 := t2
  obtain ⟨ha, hz, f, e1, e2, hB, hl, r⟩ := t
  obtain ⟨ha2, hz2, g, e12, e22, hB2, hl2, r2⟩ := t2
  rw [Nat.zero_add, Nat.one_mul] at e2 e22
  obtain ⟨w0, hw0⟩ : ∃ w0, w[0]? = some w0 := ⟨_, List.getElem?_eq_getElem (by omega)⟩
  apply Ok.val
  unfold f_J2_indexOf_3
  (repeat (first | ((with_reducible apply ok_i); (focus ((repeat (first | (with_reducible assumption) | (with_reducible exact rd_self _ _ _ _) | (with_reducible refine rd_ne (by omega) ?_) | (with_reducible refine Frm.get (by with_reducible assumption) (by omega) (by (simp only [List.mem_cons, List.not_mem_nil, or_false, not_or, not_false_eq_true]; (first | done | omega))) ?_))); done)); exact rfl) | ((with_reducible apply ok_p); (focus ((repeat (first | (with_reducible assumption) | (with_reducible exact rd_self _ _ _ _) | (with_reducible refine rd_ne (by omega) ?_) | (with_reducible refine Frm.get (by with_reducible assumption) (by omega) (by (simp only [List.mem_cons, List.not_mem_nil, or_false, not_or, not_false_eq_true]; (first | done | omega))) ?_))); done)); exact rfl) | ((with_reducible apply ok_k); (focus ((repeat (first | (with_reducible assumption) | (with_reducible exact rd_self _ _ _ _) | (with_reducible refine rd_ne (by omega) ?_) | (with_reducible refine Frm.get (by with_reducible assumption) (by omega) (by (simp only [List.mem_cons, List.not_mem_nil, or_false, not_or, not_false_eq_true]; (first | done | omega))) ?_))); done))) | ((with_reducible apply ok_len); (focus ((repeat (first | (with_reducible assumption) | (with_reducible exact rd_self _ _ _ _) | (with_reducible refine rd_ne (by omega) ?_) | (with_reducible refine Frm.get (by with_reducible assumption) (by omega) (by (simp only [List.mem_cons, List.not_mem_nil, or_false, not_or, not_false_eq_true]; (first | done | omega))) ?_))); done))) | (with_reducible apply ok_lt) | (with_reducible apply ok_ad) | ((with_reducible apply ok_put); (first | (with_reducible assumption) | exact D.ow (by omega) | exact hO _ (by omega)); (focus ((repeat (first | (with_reducible assumption) | (with_reducible exact rd_self _ _ _ _) | (with_reducible refine rd_ne (by omega) ?_) | (with_reducible refine Frm.get (by with_reducible assumption) (by omega) (by (simp only [List.mem_cons, List.not_mem_nil, or_false, not_or, not_false_eq_true]; (first | done | omega))) ?_))); done)); exact Nat.le_of_ble_eq_true rfl) | ((with_reducible apply ok_cls); (focus ((repeat (first | (with_reducible assumption) | (with_reducible exact rd_self _ _ _ _) | (with_reducible refine rd_ne (by omega) ?_) | (with_reducible refine Frm.get (by with_reducible assumption) (by omega) (by (simp only [List.mem_cons, List.not_mem_nil, or_false, not_or, not_false_eq_true]; (first | done | omega))) ?_))); done))) | ((with_reducible apply ok_ca); (focus ((repeat (first | (with_reducible assumption) | (with_reducible exact rd_self _ _ _ _) | (with_reducible refine rd_ne (by omega) ?_) | (with_reducible refine Frm.get (by with_reducible assumption) (by omega) (by (simp only [List.mem_cons, List.not_mem_nil, or_false, not_or, not_false_eq_true]; (first | done | omega))) ?_))); done)); exact (by decide)) | ((with_reducible apply ok_isa1); (focus ((repeat (first | (with_reducible assumption) | (with_reducible exact rd_self _ _ _ _) | (with_reducible refine rd_ne (by omega) ?_) | (with_reducible refine Frm.get (by with_reducible assumption) (by omega) (by (simp only [List.mem_cons, List.not_mem_nil, or_false, not_or, not_false_eq_true]; (first | done | omega))) ?_))); done)); exact (by decide)) | ((with_reducible apply ok_isa0); (focus ((repeat (first | (with_reducible assumption) | (with_reducible exact rd_self _ _ _ _) | (with_reducible refine rd_ne (by omega) ?_) | (with_reducible refine Frm.get (by with_reducible assumption) (by omega) (by (simp only [List.mem_cons, List.not_mem_nil, or_false, not_or, not_false_eq_true]; (first | done | omega))) ?_))); done)); exact (by decide); exact (by decide)) | ((with_reducible apply ok_oS); (focus ((repeat (first | (with_reducible assumption) | (with_reducible exact rd_self _ _ _ _) | (with_reducible refine rd_ne (by omega) ?_) | (with_reducible refine Frm.get (by with_reducible assumption) (by omega) (by (simp only [List.mem_cons, List.not_mem_nil, or_false, not_or, not_false_eq_true]; (first | done | omega))) ?_))); done)); exact rfl) | ((with_reducible apply ok_oN); (focus ((repeat (first | (with_reducible assumption) | (with_reducible exact rd_self _ _ _ _) | (with_reducible refine rd_ne (by omega) ?_) | (with_reducible refine Frm.get (by with_reducible assumption) (by omega) (by (simp only [List.mem_cons, List.not_mem_nil, or_false, not_or, not_false_eq_true]; (first | done | omega))) ?_))); done)); exact rfl) | ((with_reducible apply ok_j); (focus ((repeat (first | (with_reducible assumption) | (with_reducible exact rd_self _ _ _ _) | (with_reducible refine rd_ne (by omega) ?_) | (with_reducible refine Frm.get (by with_reducible assumption) (by omega) (by (simp only [List.mem_cons, List.not_mem_nil, or_false, not_or, not_false_eq_true]; (first | done | omega))) ?_))); done)); exact rfl)))
  refine ok_eq (j2_coder t0) ?_
  (repeat (first | ((with_reducible apply ok_i); (focus ((repeat (first | (with_reducible assumption) | (with_reducible exact rd_self _ _ _ _) | (with_reducible refine rd_ne (by omega) ?_) | (with_reducible refine Frm.get (by with_reducible assumption) (by omega) (by (simp only [List.mem_cons, List.not_mem_nil, or_false, not_or, not_false_eq_true]; (first | done | omega))) ?_))); done)); exact rfl) | ((with_reducible apply ok_p); (focus ((repeat (first | (with_reducible assumption) | (with_reducible exact rd_self _ _ _ _) | (with_reducible refine rd_ne (by omega) ?_) | (with_reducible refine Frm.get (by with_reducible assumption) (by omega) (by (simp only [List.mem_cons, List.not_mem_nil, or_false, not_or, not_false_eq_true]; (first | done | omega))) ?_))); done)); exact rfl) | ((with_reducible apply ok_k); (focus ((repeat (first | (with_reducible assumption) | (with_reducible exact rd_self _ _ _ _) | (with_reducible refine rd_ne (by omega) ?_) | (with_reducible refine Frm.get (by with_reducible assumption) (by omega) (by (simp only [List.mem_cons, List.not_mem_nil, or_false, not_or, not_false_eq_true]; (first | done | omega))) ?_))); done))) | ((with_reducible apply ok_len); (focus ((repeat (first | (with_reducible assumption) | (with_reducible exact rd_self _ _ _ _) | (with_reducible refine rd_ne (by omega) ?_) | (with_reducible refine Frm.get (by with_reducible assumption) (by omega) (by (simp only [List.mem_cons, List.not_mem_nil, or_false, not_or, not_false_eq_true]; (first | done | omega))) ?_))); done))) | (with_reducible apply ok_lt) | (with_reducible apply ok_ad) | ((with_reducible apply ok_put); (first | (with_reducible assumption) | exact D.ow (by omega) | exact hO _ (by omega)); (focus ((repeat (first | (with_reducible assumption) | (with_reducible exact rd_self _ _ _ _) | (with_reducible refine rd_ne (by omega) ?_) | (with_reducible refine Frm.get (by with_reducible assumption) (by omega) (by (simp only [List.mem_cons, List.not_mem_nil, or_false, not_or, not_false_eq_true]; (first | done | omega))) ?_))); done)); exact Nat.le_of_ble_eq_true rfl) | ((with_reducible apply ok_cls); (focus ((repeat (first | (with_reducible assumption) | (with_reducible exact rd_self _ _ _ _) | (with_reducible refine rd_ne (by omega) ?_) | (with_reducible refine Frm.get (by with_reducible assumption) (by omega) (by (simp only [List.mem_cons, List.not_mem_nil, or_false, not_or, not_false_eq_true]; (first | done | omega))) ?_))); done))) | ((with_reducible apply ok_ca); (focus ((repeat (first | (with_reducible assumption) | (with_reducible exact rd_self _ _ _ _) | (with_reducible refine rd_ne (by omega) ?_) | (with_reducible refine Frm.get (by with_reducible assumption) (by omega) (by (simp only [List.mem_cons, List.not_mem_nil, or_false, not_or, not_false_eq_true]; (first | done | omega))) ?_))); done)); exact (by decide)) | ((with_reducible apply ok_isa1); (focus ((repeat (first | (with_reducible assumption) | (with_reducible exact rd_self _ _ _ _) | (with_reducible refine rd_ne (by omega) ?_) | (with_reducible refine Frm.get (by with_reducible assumption) (by omega) (by (simp only [List.mem_cons, List.not_mem_nil, or_false, not_or, not_false_eq_true]; (first | done | omega))) ?_))); done)); exact (by decide)) | ((with_reducible apply ok_isa0); (focus ((repeat (first | (with_reducible assumption) | (with_reducible exact rd_self _ _ _ _) | (with_reducible refine rd_ne (by omega) ?_) | (with_reducible refine Frm.get (by with_reducible assumption) (by omega) (by (simp only [List.mem_cons, List.not_mem_nil, or_false, not_or, not_false_eq_true]; (first | done | omega))) ?_))); done)); exact (by decide); exact (by decide)) | ((with_reducible apply ok_oS); (focus ((repeat (first | (with_reducible assumption) | (with_reducible exact rd_self _ _ _ _) | (with_reducible refine rd_ne (by omega) ?_) | (with_reducible refine Frm.get (by with_reducible assumption) (by omega) (by (simp only [List.mem_cons, List.not_mem_nil, or_false, not_or, not_false_eq_true]; (first | done | omega))) ?_))); done)); exact rfl) | ((with_reducible apply ok_oN); (focus ((repeat (first | (with_reducible assumption) | (with_reducible exact rd_self _ _ _ _) | (with_reducible refine rd_ne (by omega) ?_) | (with_reducible refine Frm.get (by with_reducible assumption) (by omega) (by (simp only [List.mem_cons, List.not_mem_nil, or_false, not_or, not_false_eq_true]; (first | done | omega))) ?_))); done)); exact rfl) | ((with_reducible apply ok_j); (focus ((repeat (first | (with_reducible assumption) | (with_reducible exact rd_self _ _ _ _) | (with_reducible refine rd_ne (by omega) ?_) | (with_reducible refine Frm.get (by with_reducible assumption) (by omega) (by (simp only [List.mem_cons, List.not_mem_nil, or_false, not_or, not_false_eq_true]; (first | done | omega))) ?_))); done)); exact rfl)))
  refine ok_eq (j2_coder t20) ?_
  refine ok_pos rfl ?_
  (repeat (first | ((with_reducible apply ok_i); (focus ((repeat (first | (with_reducible assumption) | (with_reducible exact rd_self _ _ _ _) | (with_reducible refine rd_ne (by omega) ?_) | (with_reducible refine Frm.get (by with_reducible assumption) (by omega) (by (simp only [List.mem_cons, List.not_mem_nil, or_false, not_or, not_false_eq_true]; (first | done | omega))) ?_))); done)); exact rfl) | ((with_reducible apply ok_p); (focus ((repeat (first | (with_reducible assumption) | (with_reducible exact rd_self _ _ _ _) | (with_reducible refine rd_ne (by omega) ?_) | (with_reducible refine Frm.get (by with_reducible assumption) (by omega) (by (simp only [List.mem_cons, List.not_mem_nil, or_false, not_or, not_false_eq_true]; (first | done | omega))) ?_))); done)); exact rfl) | ((with_reducible apply ok_k); (focus ((repeat (first | (with_reducible assumption) | (with_reducible exact rd_self _ _ _ _) | (with_reducible refine rd_ne (by omega) ?_) | (with_reducible refine Frm.get (by with_reducible assumption) (by omega) (by (simp only [List.mem_cons, List.not_mem_nil, or_false, not_or, not_false_eq_true]; (first | done | omega))) ?_))); done))) | ((with_reducible apply ok_len); (focus ((repeat (first | (with_reducible assumption) | (with_reducible exact rd_self _ _ _ _) | (with_reducible refine rd_ne (by omega) ?_) | (with_reducible refine Frm.get (by with_reducible assumption) (by omega) (by (simp only [List.mem_cons, List.not_mem_nil, or_false, not_or, not_false_eq_true]; (first | done | omega))) ?_))); done))) | (with_reducible apply ok_lt) | (with_reducible apply ok_ad) | ((with_reducible apply ok_put); (first | (with_reducible assumption) | exact D.ow (by omega) | exact hO _ (by omega)); (focus ((repeat (first | (with_reducible assumption) | (with_reducible exact rd_self _ _ _ _) | (with_reducible refine rd_ne (by omega) ?_) | (with_reducible refine Frm.get (by with_reducible assumption) (by omega) (by (simp only [List.mem_cons, List.not_mem_nil, or_false, not_or, not_false_eq_true]; (first | done | omega))) ?_))); done)); exact Nat.le_of_ble_eq_true rfl) | ((with_reducible apply ok_cls); (focus ((repeat (first | (with_reducible assumption) | (with_reducible exact rd_self _ _ _ _) | (with_reducible refine rd_ne (by omega) ?_) | (with_reducible refine Frm.get (by with_reducible assumption) (by omega) (by (simp only [List.mem_cons, List.not_mem_nil, or_false, not_or, not_false_eq_true]; (first | done | omega))) ?_))); done))) | ((with_reducible apply ok_ca); (focus ((repeat (first | (with_reducible assumption) | (with_reducible exact rd_self _ _ _ _) | (with_reducible refine rd_ne (by omega) ?_) | (with_reducible refine Frm.get (by with_reducible assumption) (by omega) (by (simp only [List.mem_cons, List.not_mem_nil, or_false, not_or, not_false_eq_true]; (first | done | omega))) ?_))); done)); exact (by decide)) | ((with_reducible apply ok_isa1); (focus ((repeat (first | (with_reducible assumption) | (with_reducible exact rd_self _ _ _ _) | (with_reducible refine rd_ne (by omega) ?_) | (with_reducible refine Frm.get (by with_reducible assumption) (by omega) (by (simp only [List.mem_cons, List.not_mem_nil, or_false, not_or, not_false_eq_true]; (first | done | omega))) ?_))); done)); exact (by decide)) | ((with_reducible apply ok_isa0); (focus ((repeat (first | (with_reducible assumption) | (with_reducible exact rd_self _ _ _ _) | (with_reducible refine rd_ne (by omega) ?_) | (with_reducible refine Frm.get (by with_reducible assumption) (by omega) (by (simp only [List.mem_cons, List.not_mem_nil, or_false, not_or, not_false_eq_true]; (first | done | omega))) ?_))); done)); exact (by decide); exact (by decide)) | ((with_reducible apply ok_oS); (focus ((repeat (first | (with_reducible assumption) | (with_reducible exact rd_self _ _ _ _) | (with_reducible refine rd_ne (by omega) ?_) | (with_reducible refine Frm.get (by with_reducible assumption) (by omega) (by (simp only [List.mem_cons, List.not_mem_nil, or_false, not_or, not_false_eq_true]; (first | done | omega))) ?_))); done)); exact rfl) | ((with_reducible apply ok_oN); (focus ((repeat (first | (with_reducible assumption) | (with_reducible exact rd_self _ _ _ _) | (with_reducible refine rd_ne (by omega) ?_) | (with_reducible refine Frm.get (by with_reducible assumption) (by omega) (by (simp only [List.mem_cons, List.not_mem_nil, or_false, not_or, not_false_eq_true]; (first | done | omega))) ?_))); done)); exact rfl) | ((with_reducible apply ok_j); (focus ((repeat (first | (with_reducible assumption) | (with_reducible exact rd_self _ _ _ _) | (with_reducible refine rd_ne (by omega) ?_) | (with_reducible refine Frm.get (by with_reducible assumption) (by omega) (by (simp only [List.mem_cons, List.not_mem_nil, or_false, not_or, not_false_eq_true]; (first | done | omega))) ?_))); done)); exact rfl)))
  refine ok_eq (j2_isLatin1 t0) ?_
  refine ok_neg (by decide) ?_
  (repeat (first | ((with_reducible apply ok_i); (focus ((repeat (first | (with_reducible assumption) | (with_reducible exact rd_self _ _ _ _) | (with_reducible refine rd_ne (by omega) ?_) | (with_reducible refine Frm.get (by with_reducible assumption) (by omega) (by (simp only [List.mem_cons, List.not_mem_nil, or_false, not_or, not_false_eq_true]; (first | done | omega))) ?_))); done)); exact rfl) | ((with_reducible apply ok_p); (focus ((repeat (first | (with_reducible assumption) | (with_reducible exact rd_self _ _ _ _) | (with_reducible refine rd_ne (by omega) ?_) | (with_reducible refine Frm.get (by with_reducible assumption) (by omega) (by (simp only [List.mem_cons, List.not_mem_nil, or_false, not_or, not_false_eq_true]; (first | done | omega))) ?_))); done)); exact rfl) | ((with_reducible apply ok_k); (focus ((repeat (first | (with_reducible assumption) | (with_reducible exact rd_self _ _ _ _) | (with_reducible refine rd_ne (by omega) ?_) | (with_reducible refine Frm.get (by with_reducible assumption) (by omega) (by (simp only [List.mem_cons, List.not_mem_nil, or_false, not_or, not_false_eq_true]; (first | done | omega))) ?_))); done))) | ((with_reducible apply ok_len); (focus ((repeat (first | (with_reducible assumption) | (with_reducible exact rd_self _ _ _ _) | (with_reducible refine rd_ne (by omega) ?_) | (with_reducible refine Frm.get (by with_reducible assumption) (by omega) (by (simp only [List.mem_cons, List.not_mem_nil, or_false, not_or, not_false_eq_true]; (first | done | omega))) ?_))); done))) | (with_reducible apply ok_lt) | (with_reducible apply ok_ad) | ((with_reducible apply ok_put); (first | (with_reducible assumption) | exact D.ow (by omega) | exact hO _ (by omega)); (focus ((repeat (first | (with_reducible assumption) | (with_reducible exact rd_self _ _ _ _) | (with_reducible refine rd_ne (by omega) ?_) | (with_reducible refine Frm.get (by with_reducible assumption) (by omega) (by (simp only [List.mem_cons, List.not_mem_nil, or_false, not_or, not_false_eq_true]; (first | done | omega))) ?_))); done)); exact Nat.le_of_ble_eq_true rfl) | ((with_reducible apply ok_cls); (focus ((repeat (first | (with_reducible assumption) | (with_reducible exact rd_self _ _ _ _) | (with_reducible refine rd_ne (by omega) ?_) | (with_reducible refine Frm.get (by with_reducible assumption) (by omega) (by (simp only [List.mem_cons, List.not_mem_nil, or_false, not_or, not_false_eq_true]; (first | done | omega))) ?_))); done))) | ((with_reducible apply ok_ca); (focus ((repeat (first | (with_reducible assumption) | (with_reducible exact rd_self _ _ _ _) | (with_reducible refine rd_ne (by omega) ?_) | (with_reducible refine Frm.get (by with_reducible assumption) (by omega) (by (simp only [List.mem_cons, List.not_mem_nil, or_false, not_or, not_false_eq_true]; (first | done | omega))) ?_))); done)); exact (by decide)) | ((with_reducible apply ok_isa1); (focus ((repeat (first | (with_reducible assumption) | (with_reducible exact rd_self _ _ _ _) | (with_reducible refine rd_ne (by omega) ?_) | (with_reducible refine Frm.get (by with_reducible assumption) (by omega) (by (simp only [List.mem_cons, List.not_mem_nil, or_false, not_or, not_false_eq_true]; (first | done | omega))) ?_))); done)); exact (by decide)) | ((with_reducible apply ok_isa0); (focus ((repeat (first | (with_reducible assumption) | (with_reducible exact rd_self _ _ _ _) | (with_reducible refine rd_ne (by omega) ?_) | (with_reducible refine Frm.get (by with_reducible assumption) (by omega) (by (simp only [List.mem_cons, List.not_mem_nil, or_false, not_or, not_false_eq_true]; (first | done | omega))) ?_))); done)); exact (by decide); exact (by decide)) | ((with_reducible apply ok_oS); (focus ((repeat (first | (with_reducible assumption) | (with_reducible exact rd_self _ _ _ _) | (with_reducible refine rd_ne (by omega) ?_) | (with_reducible refine Frm.get (by with_reducible assumption) (by omega) (by (simp only [List.mem_cons, List.not_mem_nil, or_false, not_or, not_false_eq_true]; (first | done | omega))) ?_))); done)); exact rfl) | ((with_reducible apply ok_oN); (focus ((repeat (first | (with_reducible assumption) | (with_reducible exact rd_self _ _ _ _) | (with_reducible refine rd_ne (by omega) ?_) | (with_reducible refine Frm.get (by with_reducible assumption) (by omega) (by (simp only [List.mem_cons, List.not_mem_nil, or_false, not_or, not_false_eq_true]; (first | done | omega))) ?_))); done)); exact rfl) | ((with_reducible apply ok_j); (focus ((repeat (first | (with_reducible assumption) | (with_reducible exact rd_self _ _ _ _) | (with_reducible refine rd_ne (by omega) ?_) | (with_reducible refine Frm.get (by with_reducible assumption) (by omega) (by (simp only [List.mem_cons, List.not_mem_nil, or_false, not_or, not_false_eq_true]; (first | done | omega))) ?_))); done)); exact rfl)))
  refine ok_eq (v := oN (z_sf cs w (cs.length - w.length + 1) 0)) ?_ (ok_some rfl)
  apply Ok.val
  unfold f_J11_indexOf_2
  (repeat (first | ((with_reducible apply ok_i); (focus ((repeat (first | (with_reducible assumption) | (with_reducible exact rd_self _ _ _ _) | (with_reducible refine rd_ne (by omega) ?_) | (with_reducible refine Frm.get (by with_reducible assumption) (by omega) (by (simp only [List.mem_cons, List.not_mem_nil, or_false, not_or, not_false_eq_true]; (first | done | omega))) ?_))); done)); exact rfl) | ((with_reducible apply ok_p); (focus ((repeat (first | (with_reducible assumption) | (with_reducible exact rd_self _ _ _ _) | (with_reducible refine rd_ne (by omega) ?_) | (with_reducible refine Frm.get (by with_reducible assumption) (by omega) (by (simp only [List.mem_cons, List.not_mem_nil, or_false, not_or, not_false_eq_true]; (first | done | omega))) ?_))); done)); exact rfl) | ((with_reducible apply ok_k); (focus ((repeat (first | (with_reducible assumption) | (with_reducible exact rd_self _ _ _ _) | (with_reducible refine rd_ne (by omega) ?_) | (with_reducible refine Frm.get (by with_reducible assumption) (by omega) (by (simp only [List.mem_cons, List.not_mem_nil, or_false, not_or, not_false_eq_true]; (first | done | omega))) ?_))); done))) | ((with_reducible apply ok_len); (focus ((repeat (first | (with_reducible assumption) | (with_reducible exact rd_self _ _ _ _) | (with_reducible refine rd_ne (by omega) ?_) | (with_reducible refine Frm.get (by with_reducible assumption) (by omega) (by (simp only [List.mem_cons, List.not_mem_nil, or_false, not_or, not_false_eq_true]; (first | done | omega))) ?_))); done))) | (with_reducible apply ok_lt) | (with_reducible apply ok_ad) | ((with_reducible apply ok_put); (first | (with_reducible assumption) | exact D.ow (by omega) | exact hO _ (by omega)); (focus ((repeat (first | (with_reducible assumption) | (with_reducible exact rd_self _ _ _ _) | (with_reducible refine rd_ne (by omega) ?_) | (with_reducible refine Frm.get (by with_reducible assumption) (by omega) (by (simp only [List.mem_cons, List.not_mem_nil, or_false, not_or, not_false_eq_true]; (first | done | omega))) ?_))); done)); exact Nat.le_of_ble_eq_true rfl) | ((with_reducible apply ok_cls); (focus ((repeat (first | (with_reducible assumption) | (with_reducible exact rd_self _ _ _ _) | (with_reducible refine rd_ne (by omega) ?_) | (with_reducible refine Frm.get (by with_reducible assumption) (by omega) (by (simp only [List.mem_cons, List.not_mem_nil, or_false, not_or, not_false_eq_true]; (first | done | omega))) ?_))); done))) | ((with_reducible apply ok_ca); (focus ((repeat (first | (with_reducible assumption) | (with_reducible exact rd_self _ _ _ _) | (with_reducible refine rd_ne (by omega) ?_) | (with_reducible refine Frm.get (by with_reducible assumption) (by omega) (by (simp only [List.mem_cons, List.not_mem_nil, or_false, not_or, not_false_eq_true]; (first | done | omega))) ?_))); done)); exact (by decide)) | ((with_reducible apply ok_isa1); (focus ((repeat (first | (with_reducible assumption) | (with_reducible exact rd_self _ _ _ _) | (with_reducible refine rd_ne (by omega) ?_) | (with_reducible refine Frm.get (by with_reducible assumption) (by omega) (by (simp only [List.mem_cons, List.not_mem_nil, or_false, not_or, not_false_eq_true]; (first | done | omega))) ?_))); done)); exact (by decide)) | ((with_reducible apply ok_isa0); (focus ((repeat (first | (with_reducible assumption) | (with_reducible exact rd_self _ _ _ _) | (with_reducible refine rd_ne (by omega) ?_) | (with_reducible refine Frm.get (by with_reducible assumption) (by omega) (by (simp only [List.mem_cons, List.not_mem_nil, or_false, not_or, not_false_eq_true]; (first | done | omega))) ?_))); done)); exact (by decide); exact (by decide)) | ((with_reducible apply ok_oS); (focus ((repeat (first | (with_reducible assumption) | (with_reducible exact rd_self _ _ _ _) | (with_reducible refine rd_ne (by omega) ?_) | (with_reducible refine Frm.get (by with_reducible assumption) (by omega) (by (simp only [List.mem_cons, List.not_mem_nil, or_false, not_or, not_false_eq_true]; (first | done | omega))) ?_))); done)); exact rfl) | ((with_reducible apply ok_oN); (focus ((repeat (first | (with_reducible assumption) | (with_reducible exact rd_self _ _ _ _) | (with_reducible refine rd_ne (by omega) ?_) | (with_reducible refine Frm.get (by with_reducible assumption) (by omega) (by (simp only [List.mem_cons, List.not_mem_nil, or_false, not_or, not_false_eq_true]; (first | done | omega))) ?_))); done)); exact rfl) | ((with_reducible apply ok_j); (focus ((repeat (first | (with_reducible assumption) | (with_reducible exact rd_self _ _ _ _) | (with_reducible refine rd_ne (by omega) ?_) | (with_reducible refine Frm.get (by with_reducible assumption) (by omega) (by (simp only [List.mem_cons, List.not_mem_nil, or_false, not_or, not_false_eq_true]; (first | done | omega))) ?_))); done)); exact rfl)))
  refine ok_neg (fun hh => ?_) ?_
  · have := (nI_eq (b := 0) (by omega) (by omega)).mp hh
    omega
  (repeat (first | ((with_reducible apply ok_i); (focus ((repeat (first | (with_reducible assumption) | (with_reducible exact rd_self _ _ _ _) | (with_reducible refine rd_ne (by omega) ?_) | (with_reducible refine Frm.get (by with_reducible assumption) (by omega) (by (simp only [List.mem_cons, List.not_mem_nil, or_false, not_or, not_false_eq_true]; (first | done | omega))) ?_))); done)); exact rfl) | ((with_reducible apply ok_p); (focus ((repeat (first | (with_reducible assumption) | (with_reducible exact rd_self _ _ _ _) | (with_reducible refine rd_ne (by omega) ?_) | (with_reducible refine Frm.get (by with_reducible assumption) (by omega) (by (simp only [List.mem_cons, List.not_mem_nil, or_false, not_or, not_false_eq_true]; (first | done | omega))) ?_))); done)); exact rfl) | ((with_reducible apply ok_k); (focus ((repeat (first | (with_reducible assumption) | (with_reducible exact rd_self _ _ _ _) | (with_reducible refine rd_ne (by omega) ?_) | (with_reducible refine Frm.get (by with_reducible assumption) (by omega) (by (simp only [List.mem_cons, List.not_mem_nil, or_false, not_or, not_false_eq_true]; (first | done | omega))) ?_))); done))) | ((with_reducible apply ok_len); (focus ((repeat (first | (with_reducible assumption) | (with_reducible exact rd_self _ _ _ _) | (with_reducible refine rd_ne (by omega) ?_) | (with_reducible refine Frm.get (by with_reducible assumption) (by omega) (by (simp only [List.mem_cons, List.not_mem_nil, or_false, not_or, not_false_eq_true]; (first | done | omega))) ?_))); done))) | (with_reducible apply ok_lt) | (with_reducible apply ok_ad) | ((with_reducible apply ok_put); (first | (with_reducible assumption) | exact D.ow (by omega) | exact hO _ (by omega)); (focus ((repeat (first | (with_reducible assumption) | (with_reducible exact rd_self _ _ _ _) | (with_reducible refine rd_ne (by omega) ?_) | (with_reducible refine Frm.get (by with_reducible assumption) (by omega) (by (simp only [List.mem_cons, List.not_mem_nil, or_false, not_or, not_false_eq_true]; (first | done | omega))) ?_))); done)); exact Nat.le_of_ble_eq_true rfl) | ((with_reducible apply ok_cls); (focus ((repeat (first | (with_reducible assumption) | (with_reducible exact rd_self _ _ _ _) | (with_reducible refine rd_ne (by omega) ?_) | (with_reducible refine Frm.get (by with_reducible assumption) (by omega) (by (simp only [List.mem_cons, List.not_mem_nil, or_false, not_or, not_false_eq_true]; (first | done | omega))) ?_))); done))) | ((with_reducible apply ok_ca); (focus ((repeat (first | (with_reducible assumption) | (with_reducible exact rd_self _ _ _ _) | (with_reducible refine rd_ne (by omega) ?_) | (with_reducible refine Frm.get (by with_reducible assumption) (by omega) (by (simp only [List.mem_cons, List.not_mem_nil, or_false, not_or, not_false_eq_true]; (first | done | omega))) ?_))); done)); exact (by decide)) | ((with_reducible apply ok_isa1); (focus ((repeat (first | (with_reducible assumption) | (with_reducible exact rd_self _ _ _ _) | (with_reducible refine rd_ne (by omega) ?_) | (with_reducible refine Frm.get (by with_reducible assumption) (by omega) (by (simp only [List.mem_cons, List.not_mem_nil, or_false, not_or, not_false_eq_true]; (first | done | omega))) ?_))); done)); exact (by decide)) | ((with_reducible apply ok_isa0); (focus ((repeat (first | (with_reducible assumption) | (with_reducible exact rd_self _ _ _ _) | (with_reducible refine rd_ne (by omega) ?_) | (with_reducible refine Frm.get (by with_reducible assumption) (by omega) (by (simp only [List.mem_cons, List.not_mem_nil, or_false, not_or, not_false_eq_true]; (first | done | omega))) ?_))); done)); exact (by decide); exact (by decide)) | ((with_reducible apply ok_oS); (focus ((repeat (first | (with_reducible assumption) | (with_reducible exact rd_self _ _ _ _) | (with_reducible refine rd_ne (by omega) ?_) | (with_reducible refine Frm.get (by with_reducible assumption) (by omega) (by (simp only [List.mem_cons, List.not_mem_nil, or_false, not_or, not_false_eq_true]; (first | done | omega))) ?_))); done)); exact rfl) | ((with_reducible apply ok_oN); (focus ((repeat (first | (with_reducible assumption) | (with_reducible exact rd_self _ _ _ _) | (with_reducible refine rd_ne (by omega) ?_) | (with_reducible refine Frm.get (by with_reducible assumption) (by omega) (by (simp only [List.mem_cons, List.not_mem_nil, or_false, not_or, not_false_eq_true]; (first | done | omega))) ?_))); done)); exact rfl) | ((with_reducible apply ok_j); (focus ((repeat (first | (with_reducible assumption) | (with_reducible exact rd_self _ _ _ _) | (with_reducible refine rd_ne (by omega) ?_) | (with_reducible refine Frm.get (by with_reducible assumption) (by omega) (by (simp only [List.mem_cons, List.not_mem_nil, or_false, not_or, not_false_eq_true]; (first | done | omega))) ?_))); done)); exact rfl)))
  refine ok_neg (fun hh => ?_) ?_
  · have := (nI_eq (b := 0) (by omega) (by omega)).mp hh
    omega
  (repeat (first | ((with_reducible apply ok_i); (focus ((repeat (first | (with_reducible assumption) | (with_reducible exact rd_self _ _ _ _) | (with_reducible refine rd_ne (by omega) ?_) | (with_reducible refine Frm.get (by with_reducible assumption) (by omega) (by (simp only [List.mem_cons, List.not_mem_nil, or_false, not_or, not_false_eq_true]; (first | done | omega))) ?_))); done)); exact rfl) | ((with_reducible apply ok_p); (focus ((repeat (first | (with_reducible assumption) | (with_reducible exact rd_self _ _ _ _) | (with_reducible refine rd_ne (by omega) ?_) | (with_reducible refine Frm.get (by with_reducible assumption) (by omega) (by (simp only [List.mem_cons, List.not_mem_nil, or_false, not_or, not_false_eq_true]; (first | done | omega))) ?_))); done)); exact rfl) | ((with_reducible apply ok_k); (focus ((repeat (first | (with_reducible assumption) | (with_reducible exact rd_self _ _ _ _) | (with_reducible refine rd_ne (by omega) ?_) | (with_reducible refine Frm.get (by with_reducible assumption) (by omega) (by (simp only [List.mem_cons, List.not_mem_nil, or_false, not_or, not_false_eq_true]; (first | done | omega))) ?_))); done))) | ((with_reducible apply ok_len); (focus ((repeat (first | (with_reducible assumption) | (with_reducible exact rd_self _ _ _ _) | (with_reducible refine rd_ne (by omega) ?_) | (with_reducible refine Frm.get (by with_reducible assumption) (by omega) (by (simp only [List.mem_cons, List.not_mem_nil, or_false, not_or, not_false_eq_true]; (first | done | omega))) ?_))); done))) | (with_reducible apply ok_lt) | (with_reducible apply ok_ad) | ((with_reducible apply ok_put); (first | (with_reducible assumption) | exact D.ow (by omega) | exact hO _ (by omega)); (focus ((repeat (first | (with_reducible assumption) | (with_reducible exact rd_self _ _ _ _) | (with_reducible refine rd_ne (by omega) ?_) | (with_reducible refine Frm.get (by with_reducible assumption) (by omega) (by (simp only [List.mem_cons, List.not_mem_nil, or_false, not_or, not_false_eq_true]; (first | done | omega))) ?_))); done)); exact Nat.le_of_ble_eq_true rfl) | ((with_reducible apply ok_cls); (focus ((repeat (first | (with_reducible assumption) | (with_reducible exact rd_self _ _ _ _) | (with_reducible refine rd_ne (by omega) ?_) | (with_reducible refine Frm.get (by with_reducible assumption) (by omega) (by (simp only [List.mem_cons, List.not_mem_nil, or_false, not_or, not_false_eq_true]; (first | done | omega))) ?_))); done))) | ((with_reducible apply ok_ca); (focus ((repeat (first | (with_reducible assumption) | (with_reducible exact rd_self _ _ _ _) | (with_reducible refine rd_ne (by omega) ?_) | (with_reducible refine Frm.get (by with_reducible assumption) (by omega) (by (simp only [List.mem_cons, List.not_mem_nil, or_false, not_or, not_false_eq_true]; (first | done | omega))) ?_))); done)); exact (by decide)) | ((with_reducible apply ok_isa1); (focus ((repeat (first | (with_reducible assumption) | (with_reducible exact rd_self _ _ _ _) | (with_reducible refine rd_ne (by omega) ?_) | (with_reducible refine Frm.get (by with_reducible assumption) (by omega) (by (simp only [List.mem_cons, List.not_mem_nil, or_false, not_or, not_false_eq_true]; (first | done | omega))) ?_))); done)); exact (by decide)) | ((with_reducible apply ok_isa0); (focus ((repeat (first | (with_reducible assumption) | (with_reducible exact rd_self _ _ _ _) | (with_reducible refine rd_ne (by omega) ?_) | (with_reducible refine Frm.get (by with_reducible assumption) (by omega) (by (simp only [List.mem_cons, List.not_mem_nil, or_false, not_or, not_false_eq_true]; (first | done | omega))) ?_))); done)); exact (by decide); exact (by decide)) | ((with_reducible apply ok_oS); (focus ((repeat (first | (with_reducible assumption) | (with_reducible exact rd_self _ _ _ _) | (with_reducible refine rd_ne (by omega) ?_) | (with_reducible refine Frm.get (by with_reducible assumption) (by omega) (by (simp only [List.mem_cons, List.not_mem_nil, or_false, not_or, not_false_eq_true]; (first | done | omega))) ?_))); done)); exact rfl) | ((with_reducible apply ok_oN); (focus ((repeat (first | (with_reducible assumption) | (with_reducible exact rd_self _ _ _ _) | (with_reducible refine rd_ne (by omega) ?_) | (with_reducible refine Frm.get (by with_reducible assumption) (by omega) (by (simp only [List.mem_cons, List.not_mem_nil, or_false, not_or, not_false_eq_true]; (first | done | omega))) ?_))); done)); exact rfl) | ((with_reducible apply ok_j); (focus ((repeat (first | (with_reducible assumption) | (with_reducible exact rd_self _ _ _ _) | (with_reducible refine rd_ne (by omega) ?_) | (with_reducible refine Frm.get (by with_reducible assumption) (by omega) (by (simp only [List.mem_cons, List.not_mem_nil, or_false, not_or, not_false_eq_true]; (first | done | omega))) ?_))); done)); exact rfl)))
  refine ok_eq (v := oN (z_sf cs w (cs.length - w.length + 1) 0)) ?_ (ok_some rfl)
  apply Ok.val
  unfold f_J11_indexOf_3
  refine ok_bl (j := 0) e22 rfl (by omega) (by omega) ?_
  rcases hB2.2 with ⟨-, g1, g2⟩ | ⟨g0, -, -⟩
  · rw [g2 0 w0 hw0]
    refine Ok.of ((j11_sub e2 hB hl e22 hB2 hw hwl hw0 (cs.length - w.length + 1)).1 0 4096 (by omega) (by omega)) rfl
  · omega
end SUBS
