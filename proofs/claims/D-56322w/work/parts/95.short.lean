set_option maxRecDepth 100000
set_option linter.unusedVariables false
section SHT
variable {Ev : rb_E} {h h0 h' : AH} {n n0 o m x p pe b bv q v co cap hd sh k10 q17 v17 q33 v33 : Nat} {L : List Nat} {st : Zst} {T cs : List Nat} {num : Int32} {β : Type} {P : β → Prop} {z : Zs}
theorem z_nc_sub {c : Nat} {l l' : List Nat} (h : List.Sublist l l') : z_nc c l ≤ z_nc c l' := by
  induction h with
  | slnil => exact Nat.le_refl _
  | cons a _ ih => simp only [z_nc]; omega
  | cons_cons a _ ih => simp only [z_nc]; omega
def z_sh (c : (Nat → Nat) × (Nat → Nat) × (Nat → Bool) × (Nat → Nat)) (full : List Nat) : Nat → List Nat → Nat → List Nat
  | 0, T, _ => T
  | f + 1, T, i => if T.length ≤ i then T else if T[i]? = some 40 ∧ z_free c full T i = true then z_sh c full f (z_wom T i) i else z_sh c full f T (i + 1)
theorem z_wo_drop {T : List Nat} {i m : Nat} (hi : i < T.length) : z_nc 40 ((z_wo T i m).drop i) ≤ z_nc 40 (T.drop (i + 1)) := by
  unfold z_wo
  rw [List.append_assoc, List.drop_append_of_le_length (by rw [List.length_take]; omega), List.drop_eq_nil_of_le (by rw [List.length_take]; omega), List.nil_append]
  refine z_nc_sub ?_
  have e : T.drop (i + m + 1) = (((T.drop (i + 1)).drop (m - 1)).drop (m - (m - 1))) := by
    rw [List.drop_drop, List.drop_drop]; congr 1; omega
  rw [e]
  have h2 : List.Sublist ((T.drop (i + 1)).take (m - 1) ++ ((T.drop (i + 1)).drop (m - 1)).drop (m - (m - 1))) ((T.drop (i + 1)).take (m - 1) ++ (T.drop (i + 1)).drop (m - 1)) := List.Sublist.append (List.Sublist.refl _) (List.drop_sublist _ _)
  rw [List.take_append_drop] at h2
  exact h2
theorem z_wo_length {T : List Nat} {i m : Nat} (hi : i < T.length) (hm : z_cl (T.drop (i + 1)) 1 = some m) : (z_wo T i m).length + 2 = T.length := by
  have := z_cl_le _ _ _ hm
  rw [List.length_drop] at this
  unfold z_wo
  simp only [List.length_append, List.length_take, List.length_drop]
  omega
theorem x1_short_l (hp : rb_pf Ev) {full : List Nat} : ∀ (f i n : Nat) (T : List Nat) (h : AH) (q2 v2 : Nat), Zok (T, st.1.2) → z_brk T 0 true 0 = none → i ≤ T.length → T.length - i < f → Dm Ev n h → SY Ev h x p pe b bv st → TX Ev (rd Ev h) q17 v17 0 full → TX Ev (rd Ev h) q2 v2 0 T → q2 ∉ [x, p, pe, b, bv] → v2 ∉ [x, p, pe, b, bv] → Ok (f_X1_writeShort_l21_42 Ev x q17 f q2 (nI i) h n) (Pm 0 0 fun t h' k s => k ≤ 370 * z_nc 40 (T.drop i) ∧ s ≤ 11700 * z_nc 40 (T.drop i) ∧ t = .inl (nI (z_sh st.1.2 full f T i).length) ∧ Dm Ev (n + k) h' ∧ Frm Ev n [x] h h' ∧ SY Ev h' x p pe b bv (z_line (z_sh st.1.2 full f T i) st)) := by
  intro f
  induction f with
  | zero => intro i n T h q2 v2 _ _ _ hf; omega
  | succ f ih =>
    intro i n T h q2 v2 hz hb hi hf D y t17 t2 hq hv
    have h24 := hz.1
    dsimp only at h24
    have hch : ∀ a ∈ T, a < 65536 := fun a ha => Nat.lt_trans (z_ch_lt (hz.2.1 a ha)) (by omega)
    have y' := y
    obtain ⟨hd3, bcap3, bco3, bml3, sh3, ln3, lv3, dn3, sn3, L3, ym, -⟩ := y'
    have hlm := SYm.lt D ym
    have hox := ym.2.2.2.2.2.1
    have ex := ym.1
    have hl17 := t17.lt D
    have hl2 := t2.lt D
    obtain ⟨ha, hzz, ff, e1, e2, er⟩ := id t2
    unfold f_X1_writeShort_l21_42 z_sh
    (repeat (first | ((with_reducible apply ok_i); (focus ((repeat (first | (with_reducible assumption) | (with_reducible exact rd_self _ _ _ _) | (with_reducible refine rd_ne (by omega) ?_) | (with_reducible refine Frm.get (by with_reducible assumption) (by omega) (by (simp only [List.mem_cons, List.not_mem_nil, or_false, not_or, not_false_eq_true]; (first | done | omega))) ?_))); done)); exact rfl) | ((with_reducible apply ok_p); (focus ((repeat (first | (with_reducible assumption) | (with_reducible exact rd_self _ _ _ _) | (with_reducible refine rd_ne (by omega) ?_) | (with_reducible refine Frm.get (by with_reducible assumption) (by omega) (by (simp only [List.mem_cons, List.not_mem_nil, or_false, not_or, not_false_eq_true]; (first | done | omega))) ?_))); done)); exact rfl) | ((with_reducible apply ok_k); (focus ((repeat (first | (with_reducible assumption) | (with_reducible exact rd_self _ _ _ _) | (with_reducible refine rd_ne (by omega) ?_) | (with_reducible refine Frm.get (by with_reducible assumption) (by omega) (by (simp only [List.mem_cons, List.not_mem_nil, or_false, not_or, not_false_eq_true]; (first | done | omega))) ?_))); done))) | ((with_reducible apply ok_len); (focus ((repeat (first | (with_reducible assumption) | (with_reducible exact rd_self _ _ _ _) | (with_reducible refine rd_ne (by omega) ?_) | (with_reducible refine Frm.get (by with_reducible assumption) (by omega) (by (simp only [List.mem_cons, List.not_mem_nil, or_false, not_or, not_false_eq_true]; (first | done | omega))) ?_))); done))) | (with_reducible apply ok_lt) | (with_reducible apply ok_ad) | ((with_reducible apply ok_put); (first | (with_reducible assumption) | exact D.ow (by omega) | exact hO _ (by omega)); (focus ((repeat (first | (with_reducible assumption) | (with_reducible exact rd_self _ _ _ _) | (with_reducible refine rd_ne (by omega) ?_) | (with_reducible refine Frm.get (by with_reducible assumption) (by omega) (by (simp only [List.mem_cons, List.not_mem_nil, or_false, not_or, not_false_eq_true]; (first | done | omega))) ?_))); done)); exact Nat.le_of_ble_eq_true rfl) | ((with_reducible apply ok_cls); (focus ((repeat (first | (with_reducible assumption) | (with_reducible exact rd_self _ _ _ _) | (with_reducible refine rd_ne (by omega) ?_) | (with_reducible refine Frm.get (by with_reducible assumption) (by omega) (by (simp only [List.mem_cons, List.not_mem_nil, or_false, not_or, not_false_eq_true]; (first | done | omega))) ?_))); done))) | ((with_reducible apply ok_ca); (focus ((repeat (first | (with_reducible assumption) | (with_reducible exact rd_self _ _ _ _) | (with_reducible refine rd_ne (by omega) ?_) | (with_reducible refine Frm.get (by with_reducible assumption) (by omega) (by (simp only [List.mem_cons, List.not_mem_nil, or_false, not_or, not_false_eq_true]; (first | done | omega))) ?_))); done)); exact (by decide)) | ((with_reducible apply ok_isa1); (focus ((repeat (first | (with_reducible assumption) | (with_reducible exact rd_self _ _ _ _) | (with_reducible refine rd_ne (by omega) ?_) | (with_reducible refine Frm.get (by with_reducible assumption) (by omega) (by (simp only [List.mem_cons, List.not_mem_nil, or_false, not_or, not_false_eq_true]; (first | done | omega))) ?_))); done)); exact (by decide)) | ((with_reducible apply ok_isa0); (focus ((repeat (first | (with_reducible assumption) | (with_reducible exact rd_self _ _ _ _) | (with_reducible refine rd_ne (by omega) ?_) | (with_reducible refine Frm.get (by with_reducible assumption) (by omega) (by (simp only [List.mem_cons, List.not_mem_nil, or_false, not_or, not_false_eq_true]; (first | done | omega))) ?_))); done)); exact (by decide); exact (by decide)) | ((with_reducible apply ok_oS); (focus ((repeat (first | (with_reducible assumption) | (with_reducible exact rd_self _ _ _ _) | (with_reducible refine rd_ne (by omega) ?_) | (with_reducible refine Frm.get (by with_reducible assumption) (by omega) (by (simp only [List.mem_cons, List.not_mem_nil, or_false, not_or, not_false_eq_true]; (first | done | omega))) ?_))); done)); exact rfl) | ((with_reducible apply ok_oN); (focus ((repeat (first | (with_reducible assumption) | (with_reducible exact rd_self _ _ _ _) | (with_reducible refine rd_ne (by omega) ?_) | (with_reducible refine Frm.get (by with_reducible assumption) (by omega) (by (simp only [List.mem_cons, List.not_mem_nil, or_false, not_or, not_false_eq_true]; (first | done | omega))) ?_))); done)); exact rfl) | ((with_reducible apply ok_j); (focus ((repeat (first | (with_reducible assumption) | (with_reducible exact rd_self _ _ _ _) | (with_reducible refine rd_ne (by omega) ?_) | (with_reducible refine Frm.get (by with_reducible assumption) (by omega) (by (simp only [List.mem_cons, List.not_mem_nil, or_false, not_or, not_false_eq_true]; (first | done | omega))) ?_))); done)); exact rfl)))
    refine ok_eq (j2_length t2) ?_
    by_cases cE : T.length ≤ i
    · have hie : i = T.length := by omega
      refine ok_pos (nI_le cE (by omega)) ?_
      rw [if_pos cE]
      have y4 := y.line D t2 hq hv ex
      have hqx : q2 ≠ x := by intro hh; apply hq; simp [hh]
      have hvx : v2 ≠ x := by intro hh; apply hv; simp [hh]
      have hF : ∀ e, Frm Ev n [x] h (va_up h x e) := fun e => Frm.up (by simp) Frm.rf
      have hDD : ∀ e, Dm Ev n (va_up h x e) := fun e => Dm.up hox (by omega) D
      refine ok_put hox ex (Nat.le_of_ble_eq_true rfl) ?_
      refine ok_p (rd_self _ _ _ _) rfl ?_
      refine ok_k (rd_ne hqx e1) ?_
      refine ok_eq (j2_length (v := v2) (co := 0) (cs := T) ⟨ha, hzz, ff, rd_ne hqx e1, rd_ne hvx e2, er⟩) ?_
      exact ok_end ⟨by omega, by omega, rfl, (hDD _).mono (by omega), hF _, y4⟩
    · have hil : i < T.length := by omega
      obtain ⟨c, hc⟩ : ∃ c, T[i]? = some c := ⟨_, List.getElem?_eq_getElem hil⟩
      have hcl := hch c (List.mem_of_getElem? hc)
      have hnc : z_nc 40 (T.drop i) = (if c = 40 then 1 else 0) + z_nc 40 (T.drop (i + 1)) := by
        rw [List.drop_eq_getElem_cons hil, z_nc]
        rw [List.getElem?_eq_getElem hil, Option.some.injEq] at hc
        rw [hc]
      refine ok_neg (nI_ge hil (by omega)) ?_
      rw [if_neg cE]
      -- the text stays
      have hkeep : ∀ (n2 : Nat) (h2 : AH), n ≤ n2 → Dm Ev n2 h2 → Frm Ev n [] h h2 → Ok (f_X1_writeShort_j60_64 Ev q2 (nI i) (f_X1_writeShort_l21_42 Ev x q17 f) 0 h2 n2) (Pm 0 0 fun t h' k s => k ≤ 370 * z_nc 40 (T.drop (i + 1)) ∧ s ≤ 11700 * z_nc 40 (T.drop (i + 1)) ∧ t = .inl (nI (z_sh st.1.2 full f T (i + 1)).length) ∧ Dm Ev (n2 + k) h' ∧ Frm Ev n [x] h h' ∧ SY Ev h' x p pe b bv (z_line (z_sh st.1.2 full f T (i + 1)) st)) := by
        intro n2 h2 hn2 D2 F2
        obtain ⟨t, ht, hQ⟩ := ih (i + 1) n2 T h2 q2 v2 hz hb (by omega) (by omega) D2 (y.step D F2) (t17.fr F2 hl17.1 hl17.2.1 (by simp) (by simp)) (t2.fr F2 hl2.1 hl2.2.1 (by simp) (by simp)) hq hv
        unfold f_X1_writeShort_j60_64
        refine ok_pos rfl ?_
        unfold f_X1_writeShort_j76_66
        refine ok_pos rfl ?_
        unfold f_X1_writeShort_j88_68
        rw [nI_1]
        refine ⟨t, ht, ?_⟩
        obtain ⟨r5, h5, k5, s5⟩ := t
        simp only [Pm, Nat.zero_add] at hQ ⊢
        exact ⟨hQ.1, hQ.2.1, hQ.2.2.1, hQ.2.2.2.1, Frm.tr (F2.mono (by simp)) hQ.2.2.2.2.1 hn2 (fun a ha => Or.inr ha), hQ.2.2.2.2.2⟩
      (repeat (first | ((with_reducible apply ok_i); (focus ((repeat (first | (with_reducible assumption) | (with_reducible exact rd_self _ _ _ _) | (with_reducible refine rd_ne (by omega) ?_) | (with_reducible refine Frm.get (by with_reducible assumption) (by omega) (by (simp only [List.mem_cons, List.not_mem_nil, or_false, not_or, not_false_eq_true]; (first | done | omega))) ?_))); done)); exact rfl) | ((with_reducible apply ok_p); (focus ((repeat (first | (with_reducible assumption) | (with_reducible exact rd_self _ _ _ _) | (with_reducible refine rd_ne (by omega) ?_) | (with_reducible refine Frm.get (by with_reducible assumption) (by omega) (by (simp only [List.mem_cons, List.not_mem_nil, or_false, not_or, not_false_eq_true]; (first | done | omega))) ?_))); done)); exact rfl) | ((with_reducible apply ok_k); (focus ((repeat (first | (with_reducible assumption) | (with_reducible exact rd_self _ _ _ _) | (with_reducible refine rd_ne (by omega) ?_) | (with_reducible refine Frm.get (by with_reducible assumption) (by omega) (by (simp only [List.mem_cons, List.not_mem_nil, or_false, not_or, not_false_eq_true]; (first | done | omega))) ?_))); done))) | ((with_reducible apply ok_len); (focus ((repeat (first | (with_reducible assumption) | (with_reducible exact rd_self _ _ _ _) | (with_reducible refine rd_ne (by omega) ?_) | (with_reducible refine Frm.get (by with_reducible assumption) (by omega) (by (simp only [List.mem_cons, List.not_mem_nil, or_false, not_or, not_false_eq_true]; (first | done | omega))) ?_))); done))) | (with_reducible apply ok_lt) | (with_reducible apply ok_ad) | ((with_reducible apply ok_put); (first | (with_reducible assumption) | exact D.ow (by omega) | exact hO _ (by omega)); (focus ((repeat (first | (with_reducible assumption) | (with_reducible exact rd_self _ _ _ _) | (with_reducible refine rd_ne (by omega) ?_) | (with_reducible refine Frm.get (by with_reducible assumption) (by omega) (by (simp only [List.mem_cons, List.not_mem_nil, or_false, not_or, not_false_eq_true]; (first | done | omega))) ?_))); done)); exact Nat.le_of_ble_eq_true rfl) | ((with_reducible apply ok_cls); (focus ((repeat (first | (with_reducible assumption) | (with_reducible exact rd_self _ _ _ _) | (with_reducible refine rd_ne (by omega) ?_) | (with_reducible refine Frm.get (by with_reducible assumption) (by omega) (by (simp only [List.mem_cons, List.not_mem_nil, or_false, not_or, not_false_eq_true]; (first | done | omega))) ?_))); done))) | ((with_reducible apply ok_ca); (focus ((repeat (first | (with_reducible assumption) | (with_reducible exact rd_self _ _ _ _) | (with_reducible refine rd_ne (by omega) ?_) | (with_reducible refine Frm.get (by with_reducible assumption) (by omega) (by (simp only [List.mem_cons, List.not_mem_nil, or_false, not_or, not_false_eq_true]; (first | done | omega))) ?_))); done)); exact (by decide)) | ((with_reducible apply ok_isa1); (focus ((repeat (first | (with_reducible assumption) | (with_reducible exact rd_self _ _ _ _) | (with_reducible refine rd_ne (by omega) ?_) | (with_reducible refine Frm.get (by with_reducible assumption) (by omega) (by (simp only [List.mem_cons, List.not_mem_nil, or_false, not_or, not_false_eq_true]; (first | done | omega))) ?_))); done)); exact (by decide)) | ((with_reducible apply ok_isa0); (focus ((repeat (first | (with_reducible assumption) | (with_reducible exact rd_self _ _ _ _) | (with_reducible refine rd_ne (by omega) ?_) | (with_reducible refine Frm.get (by with_reducible assumption) (by omega) (by (simp only [List.mem_cons, List.not_mem_nil, or_false, not_or, not_false_eq_true]; (first | done | omega))) ?_))); done)); exact (by decide); exact (by decide)) | ((with_reducible apply ok_oS); (focus ((repeat (first | (with_reducible assumption) | (with_reducible exact rd_self _ _ _ _) | (with_reducible refine rd_ne (by omega) ?_) | (with_reducible refine Frm.get (by with_reducible assumption) (by omega) (by (simp only [List.mem_cons, List.not_mem_nil, or_false, not_or, not_false_eq_true]; (first | done | omega))) ?_))); done)); exact rfl) | ((with_reducible apply ok_oN); (focus ((repeat (first | (with_reducible assumption) | (with_reducible exact rd_self _ _ _ _) | (with_reducible refine rd_ne (by omega) ?_) | (with_reducible refine Frm.get (by with_reducible assumption) (by omega) (by (simp only [List.mem_cons, List.not_mem_nil, or_false, not_or, not_false_eq_true]; (first | done | omega))) ?_))); done)); exact rfl) | ((with_reducible apply ok_j); (focus ((repeat (first | (with_reducible assumption) | (with_reducible exact rd_self _ _ _ _) | (with_reducible refine rd_ne (by omega) ?_) | (with_reducible refine Frm.get (by with_reducible assumption) (by omega) (by (simp only [List.mem_cons, List.not_mem_nil, or_false, not_or, not_false_eq_true]; (first | done | omega))) ?_))); done)); exact rfl)))
      refine ok_eq (j2_charAt hp t2 hc) ?_
      by_cases c40 : c = 40
      · subst c40
        rw [if_pos rfl] at hnc
        obtain ⟨m, hm, hz', hb', ew⟩ := x1_try hp D y hz hb t2 hc
        refine ok_pos rfl ?_
        refine ok_call (x1_withoutPair hp D t2 h24 hch hm) fun r1 h1 k1 s1 D1 F1 hQ => ?_
        obtain ⟨hk1, hs1, hr1, v1, hv1, t1⟩ := hQ
        rw [← ew] at t1
        have y1 := y.step D F1
        obtain ⟨fsx, ex1, -⟩ := y1.e
        dsimp only
        (repeat (first | ((with_reducible apply ok_i); (focus ((repeat (first | (with_reducible assumption) | (with_reducible exact rd_self _ _ _ _) | (with_reducible refine rd_ne (by omega) ?_) | (with_reducible refine Frm.get (by with_reducible assumption) (by omega) (by (simp only [List.mem_cons, List.not_mem_nil, or_false, not_or, not_false_eq_true]; (first | done | omega))) ?_))); done)); exact rfl) | ((with_reducible apply ok_p); (focus ((repeat (first | (with_reducible assumption) | (with_reducible exact rd_self _ _ _ _) | (with_reducible refine rd_ne (by omega) ?_) | (with_reducible refine Frm.get (by with_reducible assumption) (by omega) (by (simp only [List.mem_cons, List.not_mem_nil, or_false, not_or, not_false_eq_true]; (first | done | omega))) ?_))); done)); exact rfl) | ((with_reducible apply ok_k); (focus ((repeat (first | (with_reducible assumption) | (with_reducible exact rd_self _ _ _ _) | (with_reducible refine rd_ne (by omega) ?_) | (with_reducible refine Frm.get (by with_reducible assumption) (by omega) (by (simp only [List.mem_cons, List.not_mem_nil, or_false, not_or, not_false_eq_true]; (first | done | omega))) ?_))); done))) | ((with_reducible apply ok_len); (focus ((repeat (first | (with_reducible assumption) | (with_reducible exact rd_self _ _ _ _) | (with_reducible refine rd_ne (by omega) ?_) | (with_reducible refine Frm.get (by with_reducible assumption) (by omega) (by (simp only [List.mem_cons, List.not_mem_nil, or_false, not_or, not_false_eq_true]; (first | done | omega))) ?_))); done))) | (with_reducible apply ok_lt) | (with_reducible apply ok_ad) | ((with_reducible apply ok_put); (first | (with_reducible assumption) | exact D.ow (by omega) | exact hO _ (by omega)); (focus ((repeat (first | (with_reducible assumption) | (with_reducible exact rd_self _ _ _ _) | (with_reducible refine rd_ne (by omega) ?_) | (with_reducible refine Frm.get (by with_reducible assumption) (by omega) (by (simp only [List.mem_cons, List.not_mem_nil, or_false, not_or, not_false_eq_true]; (first | done | omega))) ?_))); done)); exact Nat.le_of_ble_eq_true rfl) | ((with_reducible apply ok_cls); (focus ((repeat (first | (with_reducible assumption) | (with_reducible exact rd_self _ _ _ _) | (with_reducible refine rd_ne (by omega) ?_) | (with_reducible refine Frm.get (by with_reducible assumption) (by omega) (by (simp only [List.mem_cons, List.not_mem_nil, or_false, not_or, not_false_eq_true]; (first | done | omega))) ?_))); done))) | ((with_reducible apply ok_ca); (focus ((repeat (first | (with_reducible assumption) | (with_reducible exact rd_self _ _ _ _) | (with_reducible refine rd_ne (by omega) ?_) | (with_reducible refine Frm.get (by with_reducible assumption) (by omega) (by (simp only [List.mem_cons, List.not_mem_nil, or_false, not_or, not_false_eq_true]; (first | done | omega))) ?_))); done)); exact (by decide)) | ((with_reducible apply ok_isa1); (focus ((repeat (first | (with_reducible assumption) | (with_reducible exact rd_self _ _ _ _) | (with_reducible refine rd_ne (by omega) ?_) | (with_reducible refine Frm.get (by with_reducible assumption) (by omega) (by (simp only [List.mem_cons, List.not_mem_nil, or_false, not_or, not_false_eq_true]; (first | done | omega))) ?_))); done)); exact (by decide)) | ((with_reducible apply ok_isa0); (focus ((repeat (first | (with_reducible assumption) | (with_reducible exact rd_self _ _ _ _) | (with_reducible refine rd_ne (by omega) ?_) | (with_reducible refine Frm.get (by with_reducible assumption) (by omega) (by (simp only [List.mem_cons, List.not_mem_nil, or_false, not_or, not_false_eq_true]; (first | done | omega))) ?_))); done)); exact (by decide); exact (by decide)) | ((with_reducible apply ok_oS); (focus ((repeat (first | (with_reducible assumption) | (with_reducible exact rd_self _ _ _ _) | (with_reducible refine rd_ne (by omega) ?_) | (with_reducible refine Frm.get (by with_reducible assumption) (by omega) (by (simp only [List.mem_cons, List.not_mem_nil, or_false, not_or, not_false_eq_true]; (first | done | omega))) ?_))); done)); exact rfl) | ((with_reducible apply ok_oN); (focus ((repeat (first | (with_reducible assumption) | (with_reducible exact rd_self _ _ _ _) | (with_reducible refine rd_ne (by omega) ?_) | (with_reducible refine Frm.get (by with_reducible assumption) (by omega) (by (simp only [List.mem_cons, List.not_mem_nil, or_false, not_or, not_false_eq_true]; (first | done | omega))) ?_))); done)); exact rfl) | ((with_reducible apply ok_j); (focus ((repeat (first | (with_reducible assumption) | (with_reducible exact rd_self _ _ _ _) | (with_reducible refine rd_ne (by omega) ?_) | (with_reducible refine Frm.get (by with_reducible assumption) (by omega) (by (simp only [List.mem_cons, List.not_mem_nil, or_false, not_or, not_false_eq_true]; (first | done | omega))) ?_))); done)); exact rfl)))
        refine ok_call (x1_fullTextOf hp D1 y1 t1 hz' hb') fun r2 h2 k2 s2 D2 F2 hQ => ?_
        obtain ⟨hk2, hs2, hr2, v3, hv3, t3⟩ := hQ
        have F02 := Frm.tr F1 F2 (by omega) (fun a ha => Or.inr ha)
        have t172 := t17.fr F02 hl17.1 hl17.2.1 (by simp) (by simp)
        have t22 := t2.fr F02 hl2.1 hl2.2.1 (by simp) (by simp)
        obtain ⟨ha2, hzz2, f2, e12, e22, -⟩ := id t3
        dsimp only
        (repeat (first | ((with_reducible apply ok_i); (focus ((repeat (first | (with_reducible assumption) | (with_reducible exact rd_self _ _ _ _) | (with_reducible refine rd_ne (by omega) ?_) | (with_reducible refine Frm.get (by with_reducible assumption) (by omega) (by (simp only [List.mem_cons, List.not_mem_nil, or_false, not_or, not_false_eq_true]; (first | done | omega))) ?_))); done)); exact rfl) | ((with_reducible apply ok_p); (focus ((repeat (first | (with_reducible assumption) | (with_reducible exact rd_self _ _ _ _) | (with_reducible refine rd_ne (by omega) ?_) | (with_reducible refine Frm.get (by with_reducible assumption) (by omega) (by (simp only [List.mem_cons, List.not_mem_nil, or_false, not_or, not_false_eq_true]; (first | done | omega))) ?_))); done)); exact rfl) | ((with_reducible apply ok_k); (focus ((repeat (first | (with_reducible assumption) | (with_reducible exact rd_self _ _ _ _) | (with_reducible refine rd_ne (by omega) ?_) | (with_reducible refine Frm.get (by with_reducible assumption) (by omega) (by (simp only [List.mem_cons, List.not_mem_nil, or_false, not_or, not_false_eq_true]; (first | done | omega))) ?_))); done))) | ((with_reducible apply ok_len); (focus ((repeat (first | (with_reducible assumption) | (with_reducible exact rd_self _ _ _ _) | (with_reducible refine rd_ne (by omega) ?_) | (with_reducible refine Frm.get (by with_reducible assumption) (by omega) (by (simp only [List.mem_cons, List.not_mem_nil, or_false, not_or, not_false_eq_true]; (first | done | omega))) ?_))); done))) | (with_reducible apply ok_lt) | (with_reducible apply ok_ad) | ((with_reducible apply ok_put); (first | (with_reducible assumption) | exact D.ow (by omega) | exact hO _ (by omega)); (focus ((repeat (first | (with_reducible assumption) | (with_reducible exact rd_self _ _ _ _) | (with_reducible refine rd_ne (by omega) ?_) | (with_reducible refine Frm.get (by with_reducible assumption) (by omega) (by (simp only [List.mem_cons, List.not_mem_nil, or_false, not_or, not_false_eq_true]; (first | done | omega))) ?_))); done)); exact Nat.le_of_ble_eq_true rfl) | ((with_reducible apply ok_cls); (focus ((repeat (first | (with_reducible assumption) | (with_reducible exact rd_self _ _ _ _) | (with_reducible refine rd_ne (by omega) ?_) | (with_reducible refine Frm.get (by with_reducible assumption) (by omega) (by (simp only [List.mem_cons, List.not_mem_nil, or_false, not_or, not_false_eq_true]; (first | done | omega))) ?_))); done))) | ((with_reducible apply ok_ca); (focus ((repeat (first | (with_reducible assumption) | (with_reducible exact rd_self _ _ _ _) | (with_reducible refine rd_ne (by omega) ?_) | (with_reducible refine Frm.get (by with_reducible assumption) (by omega) (by (simp only [List.mem_cons, List.not_mem_nil, or_false, not_or, not_false_eq_true]; (first | done | omega))) ?_))); done)); exact (by decide)) | ((with_reducible apply ok_isa1); (focus ((repeat (first | (with_reducible assumption) | (with_reducible exact rd_self _ _ _ _) | (with_reducible refine rd_ne (by omega) ?_) | (with_reducible refine Frm.get (by with_reducible assumption) (by omega) (by (simp only [List.mem_cons, List.not_mem_nil, or_false, not_or, not_false_eq_true]; (first | done | omega))) ?_))); done)); exact (by decide)) | ((with_reducible apply ok_isa0); (focus ((repeat (first | (with_reducible assumption) | (with_reducible exact rd_self _ _ _ _) | (with_reducible refine rd_ne (by omega) ?_) | (with_reducible refine Frm.get (by with_reducible assumption) (by omega) (by (simp only [List.mem_cons, List.not_mem_nil, or_false, not_or, not_false_eq_true]; (first | done | omega))) ?_))); done)); exact (by decide); exact (by decide)) | ((with_reducible apply ok_oS); (focus ((repeat (first | (with_reducible assumption) | (with_reducible exact rd_self _ _ _ _) | (with_reducible refine rd_ne (by omega) ?_) | (with_reducible refine Frm.get (by with_reducible assumption) (by omega) (by (simp only [List.mem_cons, List.not_mem_nil, or_false, not_or, not_false_eq_true]; (first | done | omega))) ?_))); done)); exact rfl) | ((with_reducible apply ok_oN); (focus ((repeat (first | (with_reducible assumption) | (with_reducible exact rd_self _ _ _ _) | (with_reducible refine rd_ne (by omega) ?_) | (with_reducible refine Frm.get (by with_reducible assumption) (by omega) (by (simp only [List.mem_cons, List.not_mem_nil, or_false, not_or, not_false_eq_true]; (first | done | omega))) ?_))); done)); exact rfl) | ((with_reducible apply ok_j); (focus ((repeat (first | (with_reducible assumption) | (with_reducible exact rd_self _ _ _ _) | (with_reducible refine rd_ne (by omega) ?_) | (with_reducible refine Frm.get (by with_reducible assumption) (by omega) (by (simp only [List.mem_cons, List.not_mem_nil, or_false, not_or, not_false_eq_true]; (first | done | omega))) ?_))); done)); exact rfl)))
        refine ok_eq (j2_equals t3 t172) ?_
        by_cases heq : t_full (z_tree (z_wom T i, st.1.2)) = full
        · rw [if_pos heq]
          rw [if_pos (show T[i]? = some 40 ∧ z_free st.1.2 full T i = true from ⟨hc, by simp [z_free, heq]⟩)]
          refine ok_neg (by decide) ?_
          unfold f_X1_writeShort_j60_64
          refine ok_neg (by decide) ?_
          refine ok_call (x1_withoutPair hp D2 t22 h24 hch hm) fun r4 h4 k4 s4 D4 F4 hQ => ?_
          obtain ⟨hk4, hs4, hr4, v4, hv4, t4⟩ := hQ
          rw [← ew] at t4
          have F04 := Frm.tr F02 F4 (by omega) (fun a ha => Or.inr ha)
          have hlen := z_wo_length hil hm
          have hdrop := z_wo_drop (m := m) hil
          rw [← ew] at hlen hdrop
          dsimp only
          refine ok_ad ?_
          unfold f_X1_writeShort_j76_66
          refine ok_neg (by decide) ?_
          unfold f_X1_writeShort_j88_68
          rw [show nI i + 0 = nI i from nI_add i 0]
          obtain ⟨t, ht, hQ⟩ := ih i _ (z_wom T i) h4 r4 v4 hz' hb' (by have := z_cl_le _ _ _ hm; rw [List.length_drop] at this; omega) (by omega) D4 (y.step D F04) (t17.fr F04 hl17.1 hl17.2.1 (by simp) (by simp)) t4 (by simp; omega) (by simp; omega)
          refine ⟨t, ht, ?_⟩
          obtain ⟨r5, h5, k5, s5⟩ := t
          simp only [Pm, Nat.zero_add] at hQ ⊢
          obtain ⟨w1, w2, w3, w4, w5, w6⟩ := hQ
          exact ⟨by omega, by omega, w3, w4.mono (by omega), Frm.tr (F04.mono (by simp)) w5 (by omega) (fun a ha => Or.inr ha), w6⟩
        · rw [if_neg heq]
          rw [if_neg (show ¬ (T[i]? = some 40 ∧ z_free st.1.2 full T i = true) by simp [z_free, heq])]
          refine ok_pos rfl ?_
          obtain ⟨t, ht, hQ⟩ := hkeep _ h2 (by omega) D2 F02
          refine ⟨t, ht, ?_⟩
          obtain ⟨r5, h5, k5, s5⟩ := t
          simp only [Pm, Nat.zero_add] at hQ ⊢
          obtain ⟨w1, w2, w3, w4, w5, w6⟩ := hQ
          exact ⟨by omega, by omega, w3, w4.mono (by omega), w5, w6⟩
      · rw [if_neg c40] at hnc
        rw [if_neg (show ¬ (T[i]? = some 40 ∧ z_free st.1.2 full T i = true) by rw [hc]; simp [c40])]
        refine ok_neg (fun hh => c40 ((nI_c (b := 40) hcl (by omega)).mp hh)) ?_
        obtain ⟨t, ht, hQ⟩ := hkeep n h (Nat.le_refl _) D Frm.rf
        refine ⟨t, ht, ?_⟩
        obtain ⟨r5, h5, k5, s5⟩ := t
        simp only [Pm, Nat.zero_add] at hQ ⊢
        obtain ⟨w1, w2, w3, w4, w5, w6⟩ := hQ
        exact ⟨by omega, by omega, w3, w4, w5, w6⟩
end SHT
