set_option maxRecDepth 100000
set_option linter.unusedVariables false
/-! THE VALUES OF THE BRACKETINGS: plain law, and the list of the marked ones -/
theorem l_fmc {α β : Type} {f g : α → List β} : ∀ {l : List α}, (∀ a ∈ l, f a = g a) → l.flatMap f = l.flatMap g
  | [], _ => rfl
  | a :: l, h => by
    rw [List.flatMap_cons, List.flatMap_cons, h a (by simp), l_fmc fun b hb => h b (by simp [hb])]
theorem b_val_fuel {α : Type} (row : Nat → α) (ap : Nat → α → α → α) : ∀ (f i n : Nat), 1 ≤ n → n ≤ f → b_val row ap (f + 1) i n = b_val row ap f i n
  | 0, i, n, h1, h2 => by omega
  | f + 1, i, n, h1, h2 => by
    rw [b_val, b_val]
    split
    · rfl
    · next c =>
      refine l_fmc fun l hl => ?_
      rw [List.mem_range] at hl
      rw [b_val_fuel row ap f i (l + 1) (by omega) (by omega)]
      refine l_fmc fun a ha => ?_
      rw [b_val_fuel row ap f (i + l + 1) (n - l - 1) (by omega) (by omega)]
theorem b_val_9 {α : Type} (row : Nat → α) (ap : Nat → α → α → α) (i : Nat) {n : Nat} (h1 : 1 ≤ n) (h8 : n ≤ 8) : b_val row ap 8 i n = b_val row ap 9 i n := (b_val_fuel row ap 8 i n h1 h8).symm
theorem b_mem (row : Nat → Nat) (ap : Nat → Nat → Nat → Nat) {i n v : Nat} (h1 : 1 ≤ n) (h8 : n ≤ 8) : v ∈ b_val row ap 9 i n ↔ (n = 1 ∧ v = row i) ∨ ∃ l, l + 1 < n ∧ ∃ a ∈ b_val row ap 9 i (l + 1), ∃ b ∈ b_val row ap 9 (i + l + 1) (n - l - 1), v = ap (i + l + 1) a b := by
  rw [b_val]
  split
  · next c =>
    subst c
    simp
  · next c =>
    simp only [List.mem_flatMap, List.mem_map, List.mem_range, c, false_and, false_or]
    constructor
    · rintro ⟨l, hl, a, ha, b, hb, rfl⟩
      rw [b_val_9 row ap _ (by omega) (by omega)] at ha hb
      exact ⟨l, by omega, a, ha, b, hb, rfl⟩
    · rintro ⟨l, hl, a, ha, b, hb, rfl⟩
      refine ⟨l, by omega, a, ?_, b, ?_, rfl⟩
      · rw [b_val_9 row ap _ (by omega) (by omega)]; exact ha
      · rw [b_val_9 row ap _ (by omega) (by omega)]; exact hb
section ROW4
variable {Ev : rb_E} {h h0 h' hR : AH} {n n0 o m x p pe b bv q v co cap hd sh : Nat} {L A B : List Nat} {st : Zst} {cs : List Nat} {β : Type} {P : β → Prop} {z : Zs} {Gr : Int32} {Md : Int64} {ft : Nat → Int32} {fg : Nat → Option Nat}
/-- a row of numbers -/
def LI (Ev : rb_E) (w : Nat → Option va_E) (r : Nat) (Ls : List Nat) : Prop := ∃ g : Nat → Int32, w r = some (.inl (eA Ev 0, Ls.length, .inl g)) ∧ ∀ i a, Ls[i]? = some a → g i = nI a
/-- the marks -/
def FA (Ev : rb_E) (w : Nat → Option va_E) (q : Nat) (T : Nat → Prop) : Prop := ∃ y : Nat → Int32, w q = some (.inl (eA Ev 2, 1000, .inl y)) ∧ ∀ j, j < 1000 → T j ∧ y j = 1 ∨ ¬ T j ∧ y j = 0
theorem FA.congr {w : Nat → Option va_E} {T T' : Nat → Prop} (f : FA Ev w q T) (h : ∀ j, j < 1000 → (T j ↔ T' j)) : FA Ev w q T' := by
  obtain ⟨y, e, hy⟩ := f
  refine ⟨y, e, fun j hj => ?_⟩
  rw [← h j hj]; exact hy j hj
abbrev z_ls (S : Nat → Bool) (k : Nat) : List Nat := (List.range k).filter S
theorem z_ls_s (S : Nat → Bool) (k : Nat) : z_ls S (k + 1) = z_ls S k ++ (if S k then [k] else []) := by
  simp only [z_ls]
  rw [List.range_succ, List.filter_append]
  congr 1
  cases hk : S k <;> simp [hk]
theorem z_ls_len (S : Nat → Bool) (k : Nat) : (z_ls S k).length ≤ k := by
  have := List.length_filter_le S (List.range k)
  rwa [List.length_range] at this
theorem LI.w {w w2 : Nat → Option va_E} {r : Nat} {Ls : List Nat} (l : LI Ev w r Ls) (h : w2 r = w r) : LI Ev w2 r Ls := by
  obtain ⟨g, e, hg⟩ := l
  exact ⟨g, h.trans e, hg⟩
theorem x12_listed_l (ho : ∀ a, n ≤ a → eK Ev a = none) (hoq : eK Ev q = none) (hq : q < n) {S : Nat → Bool} : ∀ (d v fu : Nat) (h : AH) (y g : Nat → Int32), v + d = 1000 → d < fu → Dm Ev (n + 1) h → Frm Ev n [q] hR h → rd Ev h q = some (.inl (eA Ev 2, 1000, .inl y)) → rd Ev h n = some (.inl (eA Ev 0, 1000, .inl g)) → (∀ j, j < v → y j = 0) → (∀ j, v ≤ j → j < 1000 → y j = z_b (S j)) → (∀ i a, (z_ls S v)[i]? = some a → g i = nI a) → Ok (f_X12_listed_l10_7 Ev q n fu (nI (z_ls S v).length) (nI v) h (n + 1)) (Pm 0 0 fun r h' k s => n + 1 = r ∧ 1 = k ∧ s ≤ 1000 ∧ Dm Ev (n + 2) h' ∧ Frm Ev n [q] hR h' ∧ LI Ev (rd Ev h') (n + 1) (z_ls S 1000) ∧ FA Ev (rd Ev h') q (fun _ => False)) := by
  intro d
  induction d with
  | zero =>
    intro v fu h y g hv hf D F eq en h3 h4 h5
    cases fu with
    | zero => omega
    | succ fu =>
      obtain rfl : v = 1000 := by omega
      have hl := z_ls_len S 1000
      unfold f_X12_listed_l10_7
      refine ok_pos (nI_le (a := 1000) (b := 1000) (by omega) (by omega)) ?_
      refine ok_na (by omega) ?_
      rw [z_tn (by omega)]
      (repeat (first | ((with_reducible apply ok_i); (focus ((repeat (first | (with_reducible assumption) | (with_reducible exact rd_self _ _ _ _) | (with_reducible refine rd_ne (by omega) ?_) | (with_reducible refine Frm.get (by with_reducible assumption) (by omega) (by (simp only [List.mem_cons, List.not_mem_nil, or_false, not_or, not_false_eq_true]; (first | done | omega))) ?_))); done)); exact rfl) | ((with_reducible apply ok_p); (focus ((repeat (first | (with_reducible assumption) | (with_reducible exact rd_self _ _ _ _) | (with_reducible refine rd_ne (by omega) ?_) | (with_reducible refine Frm.get (by with_reducible assumption) (by omega) (by (simp only [List.mem_cons, List.not_mem_nil, or_false, not_or, not_false_eq_true]; (first | done | omega))) ?_))); done)); exact rfl) | ((with_reducible apply ok_k); (focus ((repeat (first | (with_reducible assumption) | (with_reducible exact rd_self _ _ _ _) | (with_reducible refine rd_ne (by omega) ?_) | (with_reducible refine Frm.get (by with_reducible assumption) (by omega) (by (simp only [List.mem_cons, List.not_mem_nil, or_false, not_or, not_false_eq_true]; (first | done | omega))) ?_))); done))) | ((with_reducible apply ok_len); (focus ((repeat (first | (with_reducible assumption) | (with_reducible exact rd_self _ _ _ _) | (with_reducible refine rd_ne (by omega) ?_) | (with_reducible refine Frm.get (by with_reducible assumption) (by omega) (by (simp only [List.mem_cons, List.not_mem_nil, or_false, not_or, not_false_eq_true]; (first | done | omega))) ?_))); done))) | (with_reducible apply ok_lt) | (with_reducible apply ok_ad) | ((with_reducible apply ok_put); (first | (with_reducible assumption) | exact D.ow (by omega) | exact hO _ (by omega)); (focus ((repeat (first | (with_reducible assumption) | (with_reducible exact rd_self _ _ _ _) | (with_reducible refine rd_ne (by omega) ?_) | (with_reducible refine Frm.get (by with_reducible assumption) (by omega) (by (simp only [List.mem_cons, List.not_mem_nil, or_false, not_or, not_false_eq_true]; (first | done | omega))) ?_))); done)); exact Nat.le_of_ble_eq_true rfl) | ((with_reducible apply ok_cls); (focus ((repeat (first | (with_reducible assumption) | (with_reducible exact rd_self _ _ _ _) | (with_reducible refine rd_ne (by omega) ?_) | (with_reducible refine Frm.get (by with_reducible assumption) (by omega) (by (simp only [List.mem_cons, List.not_mem_nil, or_false, not_or, not_false_eq_true]; (first | done | omega))) ?_))); done))) | ((with_reducible apply ok_ca); (focus ((repeat (first | (with_reducible assumption) | (with_reducible exact rd_self _ _ _ _) | (with_reducible refine rd_ne (by omega) ?_) | (with_reducible refine Frm.get (by with_reducible assumption) (by omega) (by (simp only [List.mem_cons, List.not_mem_nil, or_false, not_or, not_false_eq_true]; (first | done | omega))) ?_))); done)); exact (by decide)) | ((with_reducible apply ok_isa1); (focus ((repeat (first | (with_reducible assumption) | (with_reducible exact rd_self _ _ _ _) | (with_reducible refine rd_ne (by omega) ?_) | (with_reducible refine Frm.get (by with_reducible assumption) (by omega) (by (simp only [List.mem_cons, List.not_mem_nil, or_false, not_or, not_false_eq_true]; (first | done | omega))) ?_))); done)); exact (by decide)) | ((with_reducible apply ok_isa0); (focus ((repeat (first | (with_reducible assumption) | (with_reducible exact rd_self _ _ _ _) | (with_reducible refine rd_ne (by omega) ?_) | (with_reducible refine Frm.get (by with_reducible assumption) (by omega) (by (simp only [List.mem_cons, List.not_mem_nil, or_false, not_or, not_false_eq_true]; (first | done | omega))) ?_))); done)); exact (by decide); exact (by decide)) | ((with_reducible apply ok_oS); (focus ((repeat (first | (with_reducible assumption) | (with_reducible exact rd_self _ _ _ _) | (with_reducible refine rd_ne (by omega) ?_) | (with_reducible refine Frm.get (by with_reducible assumption) (by omega) (by (simp only [List.mem_cons, List.not_mem_nil, or_false, not_or, not_false_eq_true]; (first | done | omega))) ?_))); done)); exact rfl) | ((with_reducible apply ok_oN); (focus ((repeat (first | (with_reducible assumption) | (with_reducible exact rd_self _ _ _ _) | (with_reducible refine rd_ne (by omega) ?_) | (with_reducible refine Frm.get (by with_reducible assumption) (by omega) (by (simp only [List.mem_cons, List.not_mem_nil, or_false, not_or, not_false_eq_true]; (first | done | omega))) ?_))); done)); exact rfl) | ((with_reducible apply ok_j); (focus ((repeat (first | (with_reducible assumption) | (with_reducible exact rd_self _ _ _ _) | (with_reducible refine rd_ne (by omega) ?_) | (with_reducible refine Frm.get (by with_reducible assumption) (by omega) (by (simp only [List.mem_cons, List.not_mem_nil, or_false, not_or, not_false_eq_true]; (first | done | omega))) ?_))); done)); exact rfl)))
      have o1 := ho (n + 1) (by omega)
      refine ok_cpi (a := 0) (b := 0) (m := (z_ls S 1000).length) o1 (rd_ne (by omega) en) (rd_self _ _ _ _) rfl rfl rfl (by omega) (by omega) (by omega) (by omega) (fun _ _ => rfl) ?_
      refine ok_end ⟨rfl, rfl, by omega, Dm.up o1 (by omega) (Dm.up o1 (by omega) (D.mono (by omega))), Frm.up (Or.inl (by omega)) (Frm.up (Or.inl (by omega)) F), ⟨_, rd_self _ _ _ _, fun i a hi => ?_⟩, y, rd_ne (by omega) (rd_ne (by omega) eq), fun j hj => Or.inr ⟨id, h3 j hj⟩⟩
      have hi2 : i < (z_ls S 1000).length := (List.getElem?_eq_some_iff.mp hi).1
      simp only [va_cpy, Nat.zero_add, Nat.sub_zero, Nat.zero_le, true_and]
      rw [if_pos hi2]
      exact h5 i a hi
  | succ d ih =>
    intro v fu h y g hv hf D F eq en h3 h4 h5
    cases fu with
    | zero => omega
    | succ fu =>
      have hl := z_ls_len S v
      have on := ho n (Nat.le_refl _)
      unfold f_X12_listed_l10_7
      refine ok_neg (nI_ge (a := v) (b := 1000) (by omega) (by omega)) ?_
      refine ok_is on en rfl (show (z_ls S v).length < 1000 by omega) (by omega) ?_
      refine ok_zl (rd_ne (by omega) eq) rfl (show v < 1000 by omega) (by omega) ?_
      have hj : ∀ w0 : Nat, (w0 = if S v then 1 else 0) → Ok (f_X12_listed_j33_22 Ev q (nI (z_ls S v).length) (nI v) (n + 1) (f_X12_listed_l10_7 Ev q n fu) (va_up h n (some (.inl (eA Ev 0, 1000, .inl (upd g (z_ls S v).length (nI v)))))) (nI w0)) (Pm 0 0 fun r h' k s => n + 1 = r ∧ 1 = k ∧ s ≤ 1000 ∧ Dm Ev (n + 2) h' ∧ Frm Ev n [q] hR h' ∧ LI Ev (rd Ev h') (n + 1) (z_ls S 1000) ∧ FA Ev (rd Ev h') q (fun _ => False)) := by
        intro w0 hw
        unfold f_X12_listed_j33_22
        refine ok_zs (z := 0) hoq (rd_ne (by omega) eq) rfl (show v < 1000 by omega) (by omega) (by decide) ?_
        rw [nI_1, nI_add]
        have hlen : (z_ls S v).length + w0 = (z_ls S (v + 1)).length := by
          rw [z_ls_s, List.length_append, hw]
          cases S v <;> rfl
        rw [hlen]
        refine ih (v + 1) fu _ _ _ (by omega) (by omega) (Dm.up hoq (by omega) (Dm.up on (by omega) D)) (Frm.up (by simp) (Frm.up (by simp) F)) (rd_self _ _ _ _) (rd_ne (by omega) (rd_self _ _ _ _)) (fun j hj => ?_) (fun j hj hj2 => ?_) (fun i a hi => ?_)
        · simp only [upd]
          split
          · rfl
          · exact h3 j (by omega)
        · simp only [upd]
          rw [if_neg (by omega)]
          exact h4 j (by omega) hj2
        · rw [z_ls_s] at hi
          simp only [upd]
          by_cases hi2 : i < (z_ls S v).length
          · rw [if_neg (by omega)]
            rw [List.getElem?_append_left hi2] at hi
            exact h5 i a hi
          · rw [List.getElem?_append_right (by omega)] at hi
            cases hs : S v
            · rw [hs] at hi; simp at hi
            · rw [hs] at hi
              simp only [if_true] at hi
              have hi3 := (List.getElem?_eq_some_iff.mp hi).1
              simp only [List.length_singleton] at hi3
              have hi4 : i = (z_ls S v).length := by omega
              rw [if_pos hi4]
              rw [hi4, Nat.sub_self] at hi
              simp at hi
              rw [hi]
      rw [h4 v (Nat.le_refl v) (by omega)]
      cases hs : S v
      · refine ok_pos rfl ?_
        exact hj 0 (by rw [hs]; rfl)
      · refine ok_neg (by decide) ?_
        exact hj 1 (by rw [hs]; rfl)
theorem x12_listed (D : Dm Ev n h) (hoq : eK Ev q = none) {T : Nat → Prop} (f : FA Ev (rd Ev h) q T) {S : Nat → Bool} (hS : ∀ j, j < 1000 → (T j ↔ S j = true)) : Ok (f_X12_listed Ev h n q) (Pm 0 0 fun r h' k s => n + 1 = r ∧ 2 = k ∧ s ≤ 2000 ∧ Dm Ev (n + 2) h' ∧ Frm Ev n [q] h h' ∧ LI Ev (rd Ev h') (n + 1) (z_ls S 1000) ∧ FA Ev (rd Ev h') q (fun _ => False)) := by
  obtain ⟨y, e, hy⟩ := f
  have hq := D.lt e
  have on := D.ow (Nat.le_refl n)
  unfold f_X12_listed
  refine ok_neg (by decide) ?_
  rw [show (1000 : Int32).toNatClampNeg = 1000 from rfl]
  (repeat (first | ((with_reducible apply ok_i); (focus ((repeat (first | (with_reducible assumption) | (with_reducible exact rd_self _ _ _ _) | (with_reducible refine rd_ne (by omega) ?_) | (with_reducible refine Frm.get (by with_reducible assumption) (by omega) (by (simp only [List.mem_cons, List.not_mem_nil, or_false, not_or, not_false_eq_true]; (first | done | omega))) ?_))); done)); exact rfl) | ((with_reducible apply ok_p); (focus ((repeat (first | (with_reducible assumption) | (with_reducible exact rd_self _ _ _ _) | (with_reducible refine rd_ne (by omega) ?_) | (with_reducible refine Frm.get (by with_reducible assumption) (by omega) (by (simp only [List.mem_cons, List.not_mem_nil, or_false, not_or, not_false_eq_true]; (first | done | omega))) ?_))); done)); exact rfl) | ((with_reducible apply ok_k); (focus ((repeat (first | (with_reducible assumption) | (with_reducible exact rd_self _ _ _ _) | (with_reducible refine rd_ne (by omega) ?_) | (with_reducible refine Frm.get (by with_reducible assumption) (by omega) (by (simp only [List.mem_cons, List.not_mem_nil, or_false, not_or, not_false_eq_true]; (first | done | omega))) ?_))); done))) | ((with_reducible apply ok_len); (focus ((repeat (first | (with_reducible assumption) | (with_reducible exact rd_self _ _ _ _) | (with_reducible refine rd_ne (by omega) ?_) | (with_reducible refine Frm.get (by with_reducible assumption) (by omega) (by (simp only [List.mem_cons, List.not_mem_nil, or_false, not_or, not_false_eq_true]; (first | done | omega))) ?_))); done))) | (with_reducible apply ok_lt) | (with_reducible apply ok_ad) | ((with_reducible apply ok_put); (first | (with_reducible assumption) | exact D.ow (by omega) | exact hO _ (by omega)); (focus ((repeat (first | (with_reducible assumption) | (with_reducible exact rd_self _ _ _ _) | (with_reducible refine rd_ne (by omega) ?_) | (with_reducible refine Frm.get (by with_reducible assumption) (by omega) (by (simp only [List.mem_cons, List.not_mem_nil, or_false, not_or, not_false_eq_true]; (first | done | omega))) ?_))); done)); exact Nat.le_of_ble_eq_true rfl) | ((with_reducible apply ok_cls); (focus ((repeat (first | (with_reducible assumption) | (with_reducible exact rd_self _ _ _ _) | (with_reducible refine rd_ne (by omega) ?_) | (with_reducible refine Frm.get (by with_reducible assumption) (by omega) (by (simp only [List.mem_cons, List.not_mem_nil, or_false, not_or, not_false_eq_true]; (first | done | omega))) ?_))); done))) | ((with_reducible apply ok_ca); (focus ((repeat (first | (with_reducible assumption) | (with_reducible exact rd_self _ _ _ _) | (with_reducible refine rd_ne (by omega) ?_) | (with_reducible refine Frm.get (by with_reducible assumption) (by omega) (by (simp only [List.mem_cons, List.not_mem_nil, or_false, not_or, not_false_eq_true]; (first | done | omega))) ?_))); done)); exact (by decide)) | ((with_reducible apply ok_isa1); (focus ((repeat (first | (with_reducible assumption) | (with_reducible exact rd_self _ _ _ _) | (with_reducible refine rd_ne (by omega) ?_) | (with_reducible refine Frm.get (by with_reducible assumption) (by omega) (by (simp only [List.mem_cons, List.not_mem_nil, or_false, not_or, not_false_eq_true]; (first | done | omega))) ?_))); done)); exact (by decide)) | ((with_reducible apply ok_isa0); (focus ((repeat (first | (with_reducible assumption) | (with_reducible exact rd_self _ _ _ _) | (with_reducible refine rd_ne (by omega) ?_) | (with_reducible refine Frm.get (by with_reducible assumption) (by omega) (by (simp only [List.mem_cons, List.not_mem_nil, or_false, not_or, not_false_eq_true]; (first | done | omega))) ?_))); done)); exact (by decide); exact (by decide)) | ((with_reducible apply ok_oS); (focus ((repeat (first | (with_reducible assumption) | (with_reducible exact rd_self _ _ _ _) | (with_reducible refine rd_ne (by omega) ?_) | (with_reducible refine Frm.get (by with_reducible assumption) (by omega) (by (simp only [List.mem_cons, List.not_mem_nil, or_false, not_or, not_false_eq_true]; (first | done | omega))) ?_))); done)); exact rfl) | ((with_reducible apply ok_oN); (focus ((repeat (first | (with_reducible assumption) | (with_reducible exact rd_self _ _ _ _) | (with_reducible refine rd_ne (by omega) ?_) | (with_reducible refine Frm.get (by with_reducible assumption) (by omega) (by (simp only [List.mem_cons, List.not_mem_nil, or_false, not_or, not_false_eq_true]; (first | done | omega))) ?_))); done)); exact rfl) | ((with_reducible apply ok_j); (focus ((repeat (first | (with_reducible assumption) | (with_reducible exact rd_self _ _ _ _) | (with_reducible refine rd_ne (by omega) ?_) | (with_reducible refine Frm.get (by with_reducible assumption) (by omega) (by (simp only [List.mem_cons, List.not_mem_nil, or_false, not_or, not_false_eq_true]; (first | done | omega))) ?_))); done)); exact rfl)))
  obtain ⟨t, ht, hQ⟩ := x12_listed_l (hR := h) (n := n) (q := q) (S := S) (fun a ha => D.ow ha) hoq hq 1000 0 4096 (va_up h n (some (.inl (eA Ev 0, 1000, .inl fun _ => 0)))) y (fun _ => 0) (by omega) (by omega) (Dm.up on (by omega) (D.mono (by omega))) (Frm.up (by simp) Frm.rf) (rd_ne (by omega) e) (rd_self _ _ _ _) (fun j hj => by omega) (fun j _ hj => by
    rcases hy j hj with ⟨h1, h2⟩ | ⟨h1, h2⟩
    · rw [h2, (hS j hj).mp h1]; rfl
    · rw [h2]
      have : S j = false := by
        cases hs : S j
        · rfl
        · exact absurd ((hS j hj).mpr hs) h1
      rw [this]; rfl) (fun i a hi => by simp [z_ls] at hi)
  refine ⟨t, ht, ?_⟩
  obtain ⟨r5, h5, k5, s5⟩ := t
  simp only [Pm, Nat.zero_add, Nat.add_zero] at hQ ⊢
  obtain ⟨w1, w2, w3, w4⟩ := hQ
  exact ⟨w1, by omega, by omega, w4⟩
end ROW4
