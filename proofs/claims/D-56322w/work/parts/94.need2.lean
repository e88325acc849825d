set_option maxRecDepth 100000
set_option linter.unusedVariables false
section NDB
variable {Ev : rb_E} {h h0 h' : AH} {n n0 o m x p pe b bv q v co cap hd sh k10 q17 v17 q33 v33 : Nat} {L : List Nat} {st : Zst} {T cs : List Nat} {num : Int32} {β : Type} {P : β → Prop} {z : Zs}
theorem z_brk_bal : ∀ (r : List Nat) (d : Nat) (w : Bool) (p : Nat), z_brk r d w p = none → z_nc 40 r + d = z_nc 41 r ∧ z_nc 40 r + z_nc 41 r + (if w then 1 else 0) ≤ r.length
  | [], d, w, p, h => by
    simp only [z_brk] at h
    split at h
    · cases h
    · next c =>
      cases w
      · simp only [Bool.false_or, decide_eq_true_eq] at c
        simp [z_nc]; omega
      · simp at c
  | c :: r, d, true, p, h => by
    simp only [z_brk] at h
    split at h
    · next c1 =>
      have n1 : c ≠ 40 := by rintro rfl; revert c1; decide
      have n2 : c ≠ 41 := by rintro rfl; revert c1; decide
      have := z_brk_bal r _ _ _ h
      simp only [z_nc, if_neg n1, if_neg n2, List.length_cons, Bool.false_eq_true, if_false, if_true] at this ⊢
      omega
    · next c1 =>
      split at h
      · next c2 =>
        have := z_brk_bal r _ _ _ h
        subst c2
        simp only [z_nc, List.length_cons, if_true] at this ⊢
        rw [if_neg (by decide), if_neg (by decide)]
        omega
      · next c2 =>
        split at h
        · next c3 =>
          have := z_brk_bal r _ _ _ h
          subst c3
          simp only [z_nc, List.length_cons, if_true] at this ⊢
          rw [if_neg (by decide)]
          omega
        · cases h
  | c :: r, d, false, p, h => by
    simp only [z_brk] at h
    split at h
    · next c1 =>
      have n1 : c ≠ 40 := by rintro rfl; revert c1; decide
      have n2 : c ≠ 41 := by rintro rfl; revert c1; decide
      have := z_brk_bal r _ _ _ h
      simp only [z_nc, if_neg n1, if_neg n2, List.length_cons, Bool.false_eq_true, if_false, if_true] at this ⊢
      omega
    · next c1 =>
      split at h
      · next c2 =>
        have := z_brk_bal r _ _ _ h
        obtain ⟨c21, c22⟩ := c2
        subst c21
        simp only [z_nc, List.length_cons, Bool.false_eq_true, if_false, if_true] at this ⊢
        rw [if_neg (by decide)]
        omega
      · cases h
theorem x1_draft0 (D : Dm Ev n h) (y : SY Ev h x p pe b bv st) (hz : Zok st.1) {sh b' : Nat} {fs fs2 : List Value} (ex : rd Ev h x = some (.inr (0, .ref sh :: fs))) (es : rd Ev h sh = some (.inr (1, .ref b' :: fs2))) : (∃ fs3, rd Ev h b' = some (.inr (13, fs3))) ∧ Sp Ev (f_J1_toString Ev h n b') n [] h (fun r h' k s => n = r ∧ 2 = k ∧ s ≤ 60 ∧ TX Ev (rd Ev h') n (n + 1) 0 st.1.1) := by
  obtain ⟨sh2, fs4, ex2, ⟨b2, bv2, cap2, ca, ma, ra, sa, s1, ⟨ml, t⟩, s3⟩, hz2⟩ := y.sheet
  rw [ex] at ex2; cases ex2
  rw [es] at s1; cases s1
  have t0 := t
  obtain ⟨f, hm, e1, -, hB, -⟩ := t
  have h24 := hz.1
  refine ⟨⟨_, e1⟩, ?_⟩
  obtain ⟨tt, ht, D2, F2, hr, hk, hs, hT⟩ := j1_toString D t0 (Or.inl rfl) (by omega)
  exact ⟨tt, ht, D2, F2, hr, hk, by omega, hT⟩
theorem x1_neededPairs (hp : rb_pf Ev) (D : Dm Ev n h) (y : SY Ev h x p pe b bv st) : Sp Ev (f_X1_neededPairs Ev h n x) n [x] h (Tw Ev 4300 131000 x p pe b bv st (nI (z_need st.1.2 (t_full (z_tree st.1)) st.1.1 0 st.1.1))) := by
  obtain ⟨sh, fs, ex, s, hz⟩ := y.sheet
  have h24 := hz.1
  unfold Sp f_X1_neededPairs
  (repeat (first | ((with_reducible apply ok_i); (focus ((repeat (first | (with_reducible assumption) | (with_reducible exact rd_self _ _ _ _) | (with_reducible refine rd_ne (by omega) ?_) | (with_reducible refine Frm.get (by with_reducible assumption) (by omega) (by (simp only [List.mem_cons, List.not_mem_nil, or_false, not_or, not_false_eq_true]; (first | done | omega))) ?_))); done)); exact rfl) | ((with_reducible apply ok_p); (focus ((repeat (first | (with_reducible assumption) | (with_reducible exact rd_self _ _ _ _) | (with_reducible refine rd_ne (by omega) ?_) | (with_reducible refine Frm.get (by with_reducible assumption) (by omega) (by (simp only [List.mem_cons, List.not_mem_nil, or_false, not_or, not_false_eq_true]; (first | done | omega))) ?_))); done)); exact rfl) | ((with_reducible apply ok_k); (focus ((repeat (first | (with_reducible assumption) | (with_reducible exact rd_self _ _ _ _) | (with_reducible refine rd_ne (by omega) ?_) | (with_reducible refine Frm.get (by with_reducible assumption) (by omega) (by (simp only [List.mem_cons, List.not_mem_nil, or_false, not_or, not_false_eq_true]; (first | done | omega))) ?_))); done))) | ((with_reducible apply ok_len); (focus ((repeat (first | (with_reducible assumption) | (with_reducible exact rd_self _ _ _ _) | (with_reducible refine rd_ne (by omega) ?_) | (with_reducible refine Frm.get (by with_reducible assumption) (by omega) (by (simp only [List.mem_cons, List.not_mem_nil, or_false, not_or, not_false_eq_true]; (first | done | omega))) ?_))); done))) | (with_reducible apply ok_lt) | (with_reducible apply ok_ad) | ((with_reducible apply ok_put); (first | (with_reducible assumption) | exact D.ow (by omega) | exact hO _ (by omega)); (focus ((repeat (first | (with_reducible assumption) | (with_reducible exact rd_self _ _ _ _) | (with_reducible refine rd_ne (by omega) ?_) | (with_reducible refine Frm.get (by with_reducible assumption) (by omega) (by (simp only [List.mem_cons, List.not_mem_nil, or_false, not_or, not_false_eq_true]; (first | done | omega))) ?_))); done)); exact Nat.le_of_ble_eq_true rfl) | ((with_reducible apply ok_cls); (focus ((repeat (first | (with_reducible assumption) | (with_reducible exact rd_self _ _ _ _) | (with_reducible refine rd_ne (by omega) ?_) | (with_reducible refine Frm.get (by with_reducible assumption) (by omega) (by (simp only [List.mem_cons, List.not_mem_nil, or_false, not_or, not_false_eq_true]; (first | done | omega))) ?_))); done))) | ((with_reducible apply ok_ca); (focus ((repeat (first | (with_reducible assumption) | (with_reducible exact rd_self _ _ _ _) | (with_reducible refine rd_ne (by omega) ?_) | (with_reducible refine Frm.get (by with_reducible assumption) (by omega) (by (simp only [List.mem_cons, List.not_mem_nil, or_false, not_or, not_false_eq_true]; (first | done | omega))) ?_))); done)); exact (by decide)) | ((with_reducible apply ok_isa1); (focus ((repeat (first | (with_reducible assumption) | (with_reducible exact rd_self _ _ _ _) | (with_reducible refine rd_ne (by omega) ?_) | (with_reducible refine Frm.get (by with_reducible assumption) (by omega) (by (simp only [List.mem_cons, List.not_mem_nil, or_false, not_or, not_false_eq_true]; (first | done | omega))) ?_))); done)); exact (by decide)) | ((with_reducible apply ok_isa0); (focus ((repeat (first | (with_reducible assumption) | (with_reducible exact rd_self _ _ _ _) | (with_reducible refine rd_ne (by omega) ?_) | (with_reducible refine Frm.get (by with_reducible assumption) (by omega) (by (simp only [List.mem_cons, List.not_mem_nil, or_false, not_or, not_false_eq_true]; (first | done | omega))) ?_))); done)); exact (by decide); exact (by decide)) | ((with_reducible apply ok_oS); (focus ((repeat (first | (with_reducible assumption) | (with_reducible exact rd_self _ _ _ _) | (with_reducible refine rd_ne (by omega) ?_) | (with_reducible refine Frm.get (by with_reducible assumption) (by omega) (by (simp only [List.mem_cons, List.not_mem_nil, or_false, not_or, not_false_eq_true]; (first | done | omega))) ?_))); done)); exact rfl) | ((with_reducible apply ok_oN); (focus ((repeat (first | (with_reducible assumption) | (with_reducible exact rd_self _ _ _ _) | (with_reducible refine rd_ne (by omega) ?_) | (with_reducible refine Frm.get (by with_reducible assumption) (by omega) (by (simp only [List.mem_cons, List.not_mem_nil, or_false, not_or, not_false_eq_true]; (first | done | omega))) ?_))); done)); exact rfl) | ((with_reducible apply ok_j); (focus ((repeat (first | (with_reducible assumption) | (with_reducible exact rd_self _ _ _ _) | (with_reducible refine rd_ne (by omega) ?_) | (with_reducible refine Frm.get (by with_reducible assumption) (by omega) (by (simp only [List.mem_cons, List.not_mem_nil, or_false, not_or, not_false_eq_true]; (first | done | omega))) ?_))); done)); exact rfl)))
  refine ok_call (x1_tree hp D y) fun r h1 k1 s1 D1 F1 hQ => ?_
  obtain ⟨hk, hs, hQ⟩ := hQ
  cases hb : z_brk st.1.1 0 true 0 with
  | none =>
    rw [hb] at hQ
    obtain ⟨⟨a, rfl, hT⟩, y1, F2⟩ := hQ
    clear F1
    have hok := z_tree_ok2 hz hb
    dsimp only
    refine ok_ad ?_
    refine ok_call (x1_fullText hp n (n + k1) (z_tree st.1) 30 h1 (n + k1) a (by omega) (by omega) hok.1 D1 hT) fun r3 h3 k3 s3 D3 F3 hQ => ?_
    obtain ⟨hk3, hs3, hr3, v3, hv3, t3⟩ := hQ
    have y3 := y1.step D1 F3
    have hlen : k3 ≤ 288 ∧ s3 ≤ 9840 := by omega
    have y3' := y3
    obtain ⟨sh3, fs3, ex3, ⟨b2, bv2, cap2, ca, ma, ra, sa, s2, s3'⟩, hz3⟩ := y3'.sheet
    obtain ⟨⟨fs5, e5⟩, hS⟩ := x1_draft0 D3 y3 hz ex3 s2
    have hl3 := t3.lt D3
    dsimp only
    (repeat (first | ((with_reducible apply ok_i); (focus ((repeat (first | (with_reducible assumption) | (with_reducible exact rd_self _ _ _ _) | (with_reducible refine rd_ne (by omega) ?_) | (with_reducible refine Frm.get (by with_reducible assumption) (by omega) (by (simp only [List.mem_cons, List.not_mem_nil, or_false, not_or, not_false_eq_true]; (first | done | omega))) ?_))); done)); exact rfl) | ((with_reducible apply ok_p); (focus ((repeat (first | (with_reducible assumption) | (with_reducible exact rd_self _ _ _ _) | (with_reducible refine rd_ne (by omega) ?_) | (with_reducible refine Frm.get (by with_reducible assumption) (by omega) (by (simp only [List.mem_cons, List.not_mem_nil, or_false, not_or, not_false_eq_true]; (first | done | omega))) ?_))); done)); exact rfl) | ((with_reducible apply ok_k); (focus ((repeat (first | (with_reducible assumption) | (with_reducible exact rd_self _ _ _ _) | (with_reducible refine rd_ne (by omega) ?_) | (with_reducible refine Frm.get (by with_reducible assumption) (by omega) (by (simp only [List.mem_cons, List.not_mem_nil, or_false, not_or, not_false_eq_true]; (first | done | omega))) ?_))); done))) | ((with_reducible apply ok_len); (focus ((repeat (first | (with_reducible assumption) | (with_reducible exact rd_self _ _ _ _) | (with_reducible refine rd_ne (by omega) ?_) | (with_reducible refine Frm.get (by with_reducible assumption) (by omega) (by (simp only [List.mem_cons, List.not_mem_nil, or_false, not_or, not_false_eq_true]; (first | done | omega))) ?_))); done))) | (with_reducible apply ok_lt) | (with_reducible apply ok_ad) | ((with_reducible apply ok_put); (first | (with_reducible assumption) | exact D.ow (by omega) | exact hO _ (by omega)); (focus ((repeat (first | (with_reducible assumption) | (with_reducible exact rd_self _ _ _ _) | (with_reducible refine rd_ne (by omega) ?_) | (with_reducible refine Frm.get (by with_reducible assumption) (by omega) (by (simp only [List.mem_cons, List.not_mem_nil, or_false, not_or, not_false_eq_true]; (first | done | omega))) ?_))); done)); exact Nat.le_of_ble_eq_true rfl) | ((with_reducible apply ok_cls); (focus ((repeat (first | (with_reducible assumption) | (with_reducible exact rd_self _ _ _ _) | (with_reducible refine rd_ne (by omega) ?_) | (with_reducible refine Frm.get (by with_reducible assumption) (by omega) (by (simp only [List.mem_cons, List.not_mem_nil, or_false, not_or, not_false_eq_true]; (first | done | omega))) ?_))); done))) | ((with_reducible apply ok_ca); (focus ((repeat (first | (with_reducible assumption) | (with_reducible exact rd_self _ _ _ _) | (with_reducible refine rd_ne (by omega) ?_) | (with_reducible refine Frm.get (by with_reducible assumption) (by omega) (by (simp only [List.mem_cons, List.not_mem_nil, or_false, not_or, not_false_eq_true]; (first | done | omega))) ?_))); done)); exact (by decide)) | ((with_reducible apply ok_isa1); (focus ((repeat (first | (with_reducible assumption) | (with_reducible exact rd_self _ _ _ _) | (with_reducible refine rd_ne (by omega) ?_) | (with_reducible refine Frm.get (by with_reducible assumption) (by omega) (by (simp only [List.mem_cons, List.not_mem_nil, or_false, not_or, not_false_eq_true]; (first | done | omega))) ?_))); done)); exact (by decide)) | ((with_reducible apply ok_isa0); (focus ((repeat (first | (with_reducible assumption) | (with_reducible exact rd_self _ _ _ _) | (with_reducible refine rd_ne (by omega) ?_) | (with_reducible refine Frm.get (by with_reducible assumption) (by omega) (by (simp only [List.mem_cons, List.not_mem_nil, or_false, not_or, not_false_eq_true]; (first | done | omega))) ?_))); done)); exact (by decide); exact (by decide)) | ((with_reducible apply ok_oS); (focus ((repeat (first | (with_reducible assumption) | (with_reducible exact rd_self _ _ _ _) | (with_reducible refine rd_ne (by omega) ?_) | (with_reducible refine Frm.get (by with_reducible assumption) (by omega) (by (simp only [List.mem_cons, List.not_mem_nil, or_false, not_or, not_false_eq_true]; (first | done | omega))) ?_))); done)); exact rfl) | ((with_reducible apply ok_oN); (focus ((repeat (first | (with_reducible assumption) | (with_reducible exact rd_self _ _ _ _) | (with_reducible refine rd_ne (by omega) ?_) | (with_reducible refine Frm.get (by with_reducible assumption) (by omega) (by (simp only [List.mem_cons, List.not_mem_nil, or_false, not_or, not_false_eq_true]; (first | done | omega))) ?_))); done)); exact rfl) | ((with_reducible apply ok_j); (focus ((repeat (first | (with_reducible assumption) | (with_reducible exact rd_self _ _ _ _) | (with_reducible refine rd_ne (by omega) ?_) | (with_reducible refine Frm.get (by with_reducible assumption) (by omega) (by (simp only [List.mem_cons, List.not_mem_nil, or_false, not_or, not_false_eq_true]; (first | done | omega))) ?_))); done)); exact rfl)))
    refine ok_call hS fun r4 h4 k4 s4 D4 F4 hQ => ?_
    obtain ⟨rfl, rfl, hs4, t4⟩ := hQ
    dsimp only
    refine ok_ad ?_
    have hbal := z_brk_bal _ _ _ _ hb
    simp only [if_true] at hbal
    obtain ⟨t, ht, hQ⟩ := x1_need_l (T := st.1.1) hp hz hb st.1.1 0 0 4096 _ h4 (by simp) (by omega) (by omega) D4 (y3.step D3 F4) (t3.fr F4 hl3.1 hl3.2.1 (by simp) (by simp)) t4
    refine ⟨t, ht, ?_⟩
    obtain ⟨r5, h5, k5, s5⟩ := t
    simp only [Pm, Nat.zero_add] at hQ ⊢
    obtain ⟨w1, w2, w3, w4, w5⟩ := hQ
    have F05 : Frm Ev n [x] h h5 := Frm.tr (F2.mono (by simp)) ((Frm.tr (Frm.tr F3 F4 (by omega) (by simp)) w5 (by omega) (by simp)).mono (by simp)) (by omega) (fun a ha => Or.inr ha)
    refine ⟨w4.mono (by omega), F05, by omega, by omega, ?_⟩
    rw [hb]
    exact ⟨w3, (y3.step D3 F4).step D4 w5⟩
  | some q =>
    rw [hb] at hQ
    obtain ⟨⟨a, rfl⟩, y1⟩ := hQ
    dsimp only
    refine ok_ad (ok_pos rfl ?_)
    refine ok_end ⟨by ((repeat (first | (with_reducible assumption) | (exact D.mono (by omega)) | (with_reducible refine Dm.up (by (first | (with_reducible assumption) | exact D.ow (by omega) | exact hO _ (by omega))) (by omega) ?_) | (refine Dm.mono (by with_reducible assumption) (by omega)))); done), F1, by omega, by omega, ?_⟩
    rw [hb]
    exact ⟨⟨_, rfl⟩, y1⟩
end NDB
