set_option maxRecDepth 100000
set_option linter.unusedVariables false
/-! TOOLS: programs over the abstract heap, judged -/
def Dm (Ev : rb_E) (n : Nat) (h : AH) : Prop := (∀ a, n ≤ a → h a = none ∧ eK Ev a = none) ∧ ∀ a, eK Ev a ≠ none → h a = none
def Frm (Ev : rb_E) (n : Nat) (M : List Nat) (h h' : AH) : Prop := ∀ a, a < n → a ∉ M → rd Ev h' a = rd Ev h a
theorem Dm.lt {Ev : rb_E} {n : Nat} {h : AH} (D : Dm Ev n h) {q : Nat} {e : va_E} (x : rd Ev h q = some e) : q < n := by
  rcases Nat.lt_or_ge q n with c | c
  · exact c
  · simp [rd, (D.1 q c).1, (D.1 q c).2] at x
theorem Dm.ow {Ev : rb_E} {n : Nat} {h : AH} (D : Dm Ev n h) {a : Nat} (h1 : n ≤ a) : eK Ev a = none := (D.1 a h1).2
theorem Dm.no {Ev : rb_E} {n : Nat} {h : AH} (D : Dm Ev n h) {a : Nat} (h1 : n ≤ a) : rd Ev h a = none := by simp [rd, (D.1 a h1).1, (D.1 a h1).2]
theorem Dm.k {Ev : rb_E} {n : Nat} {h : AH} (D : Dm Ev n h) {a : Nat} {e : va_E} (h1 : eK Ev a = some e) : rd Ev h a = some e := rd_k (D.2 a (by rw [h1]; simp)) h1
theorem Dm.mono {Ev : rb_E} {n m : Nat} {h : AH} (D : Dm Ev n h) (h1 : n ≤ m) : Dm Ev m h := ⟨fun a ha => D.1 a (Nat.le_trans h1 ha), D.2⟩
theorem Dm.up {Ev : rb_E} {m : Nat} {h : AH} {a : Nat} {e : Option va_E} (ho : eK Ev a = none) (ha : a < m) (D : Dm Ev m h) : Dm Ev m (va_up h a e) := ⟨fun b hb => ⟨by rw [va_up_ne _ _ (by omega)]; exact (D.1 b hb).1, (D.1 b hb).2⟩, fun b hb => by rw [va_up_ne _ _ (by rintro rfl; exact hb ho)]; exact D.2 b hb⟩
theorem rd_self (Ev : rb_E) (h : AH) (q : Nat) (e : va_E) : rd Ev (va_up h q (some e)) q = some e := by simp [rd, va_up_self]
theorem rd_ne {Ev : rb_E} {h : AH} {q a : Nat} {e : Option va_E} {x : Option va_E} (hne : a ≠ q) (e0 : rd Ev h a = x) : rd Ev (va_up h q e) a = x := by rw [← e0]; simp [rd, va_up_ne _ _ hne]
theorem Frm.rf {Ev : rb_E} {n : Nat} {M : List Nat} {h : AH} : Frm Ev n M h h := fun _ _ _ => rfl
theorem Frm.up {Ev : rb_E} {n : Nat} {M : List Nat} {h h' : AH} {a : Nat} {e : Option va_E} (ha : n ≤ a ∨ a ∈ M) (f : Frm Ev n M h h') : Frm Ev n M h (va_up h' a e) := fun b hb hM => (rd_ne (by rintro rfl; rcases ha with ha | ha; omega; exact hM ha) rfl).trans (f b hb hM)
theorem Frm.tr {Ev : rb_E} {n m : Nat} {M M' : List Nat} {h h' h2 : AH} (f : Frm Ev n M h h') (g : Frm Ev m M' h' h2) (hnm : n ≤ m) (hM : ∀ a ∈ M', n ≤ a ∨ a ∈ M) : Frm Ev n M h h2 := fun b hb hb' => (g b (by omega) (fun hc => by rcases hM b hc with q | q; omega; exact hb' q)).trans (f b hb hb')
theorem Frm.get {Ev : rb_E} {n : Nat} {M : List Nat} {h h' : AH} {a : Nat} {x : Option va_E} (f : Frm Ev n M h h') (hlt : a < n) (hm : a ∉ M) (e : rd Ev h a = x) : rd Ev h' a = x := (f a hlt hm).trans e
theorem Frm.mono {Ev : rb_E} {n : Nat} {M M' : List Nat} {h h' : AH} (f : Frm Ev n M h h') (hs : ∀ a ∈ M, a ∈ M') : Frm Ev n M' h h' := fun b hb hb' => f b hb (fun hc => hb' (hs b hc))
theorem Frm.le {Ev : rb_E} {n m : Nat} {M : List Nat} {h h' : AH} (f : Frm Ev n M h h') (hs : m ≤ n) : Frm Ev m M h h' := fun b hb hb' => f b (by omega) hb'
theorem va_up_up {α : Type} (f : Nat → α) (k : Nat) (v w : α) : va_up (va_up f k v) k w = va_up f k w := by
  funext j
  by_cases c : j = k
  · subst c; rw [va_up_self, va_up_self]
  · rw [va_up_ne _ _ c, va_up_ne _ _ c, va_up_ne _ _ c]
/-! the judgement -/
def Ok {β : Type} (x : Option β) (P : β → Prop) : Prop := ∃ r, x = some r ∧ P r
def Pm {α : Type} (kc ks : Nat) (Q : α → AH → Nat → Nat → Prop) : α × AH × Nat × Nat → Prop := fun t => Q t.1 t.2.1 (kc + t.2.2.1) (ks + t.2.2.2)
/-- what a program that may change the heap does: no old cell changes but those of M -/
def Sp (Ev : rb_E) {α : Type} (x : Option (α × AH × Nat × Nat)) (n : Nat) (M : List Nat) (h : AH) (Q : α → AH → Nat → Nat → Prop) : Prop := Ok x (Pm 0 0 fun r h' k s => Dm Ev (n + k) h' ∧ Frm Ev n M h h' ∧ Q r h' k s)
section OKS
variable {β : Type} {Ev : rb_E} {h : AH} {q c k : Nat} {P : β → Prop}
theorem Ok.val {x : Option β} {v : β} (o : Ok x (fun r => r = v)) : x = some v := by
  obtain ⟨r, e, e2⟩ := o
  rw [e, e2]
theorem Ok.of {x : Option β} {v : β} (e : x = some v) (p : P v) : Ok x P := ⟨v, e, p⟩
theorem ok_some {r : β} (p : P r) : Ok (some r) P := ⟨r, rfl, p⟩
theorem ok_end {α : Type} {r : α} {h' : AH} {kc ks k s : Nat} {Q : α → AH → Nat → Nat → Prop} (p : Q r h' (kc + k) (ks + s)) : Ok (some (r, h', k, s)) (Pm kc ks Q) := ⟨_, rfl, p⟩
theorem ok_ad {α : Type} {x : Option (α × AH × Nat × Nat)} {kc ks k s : Nat} {Q : α → AH → Nat → Nat → Prop} (g : Ok x (Pm (kc + k) (ks + s) Q)) : Ok (ad k s x) (Pm kc ks Q) := by
  obtain ⟨⟨r, h', a, b⟩, e, p⟩ := g
  subst e
  exact ⟨_, rfl, by simpa only [Pm, Nat.add_assoc] using p⟩
theorem ok_lt {α : Type} {x : α} {f : α → Option β} (g : Ok (f x) P) : Ok (rb_lt x f) P := g
theorem ok_eq {α : Type} {x : Option α} {v : α} {f : α → Option β} (e : x = some v) (g : Ok (f v) P) : Ok (x.bind f) P := by
  rw [e]; exact g
theorem ok_ok {α : Type} {x : Option α} {P1 : α → Prop} {f : α → Option β} (e : Ok x P1) (g : ∀ v, P1 v → Ok (f v) P) : Ok (x.bind f) P := by
  obtain ⟨v, e, p⟩ := e
  rw [e]; exact g v p
theorem ok_call {α : Type} {x : Option (α × AH × Nat × Nat)} {n : Nat} {M : List Nat} {Q1 : α → AH → Nat → Nat → Prop} {f : α × AH × Nat × Nat → Option β} (e : Sp Ev x n M h Q1) (g : ∀ r h' k s, Dm Ev (n + k) h' → Frm Ev n M h h' → Q1 r h' k s → Ok (f (r, h', k, s)) P) : Ok (x.bind f) P := by
  obtain ⟨⟨r, h', a, b⟩, e, p⟩ := e
  simp only [Pm, Nat.zero_add] at p
  rw [e]; exact g r h' a b p.1 p.2.1 p.2.2
theorem ok_tail {α : Type} {x : Option (α × AH × Nat × Nat)} {n : Nat} {M : List Nat} {Q1 : α → AH → Nat → Nat → Prop} {kc ks : Nat} {Q : α → AH → Nat → Nat → Prop} (e : Sp Ev x n M h Q1) (g : ∀ r h' k s, Dm Ev (n + k) h' → Frm Ev n M h h' → Q1 r h' k s → Q r h' (kc + k) (ks + s)) : Ok x (Pm kc ks Q) := by
  obtain ⟨⟨r, h', a, b⟩, e, p⟩ := e
  simp only [Pm, Nat.zero_add] at p
  exact ⟨_, e, g r h' a b p.1 p.2.1 p.2.2⟩
theorem ok_pos {c : Prop} {d : Decidable c} {a b : Option β} (hc : c) (g : Ok a P) : Ok (@ite _ c d a b) P := by rw [if_pos hc]; exact g
theorem ok_neg {c : Prop} {d : Decidable c} {a b : Option β} (hc : ¬ c) (g : Ok b P) : Ok (@ite _ c d a b) P := by rw [if_neg hc]; exact g
theorem ok_ite {c : Prop} {d : Decidable c} {a b : Option β} (g1 : c → Ok a P) (g2 : ¬ c → Ok b P) : Ok (@ite _ c d a b) P := by
  by_cases hc : c
  · rw [if_pos hc]; exact g1 hc
  · rw [if_neg hc]; exact g2 hc
theorem ok_na {L : Nat} {x : Option β} {d : Decidable (nI L < 0 ∨ 65536 < (nI L).toNatClampNeg)} (hL : L ≤ 65536) (g : Ok x P) : Ok (@ite _ (nI L < 0 ∨ 65536 < (nI L).toNatClampNeg) d none x) P := ok_neg (by
  rw [nI_clamp (by omega)]
  rintro (h1 | h1)
  · exact nI_pos (by omega) h1
  · omega) g
/-! reads -/
theorem ok_i {fs : List Value} {x : Int32} {f : Int32 → Option β} (e : rd Ev h q = some (.inr (c, fs))) (hk : fs[k]? = some (.int x)) (g : Ok (f x) P) : Ok ((hp_i Ev h q c k).bind f) P := by
  simp only [hp_i, hp_fd, e, if_pos, hk, Option.bind_some]; exact g
theorem ok_p {fs : List Value} {x : Nat} {f : Nat → Option β} (e : rd Ev h q = some (.inr (c, fs))) (hk : fs[k]? = some (.ref x)) (g : Ok (f x) P) : Ok ((hp_p Ev h q c k).bind f) P := by
  simp only [hp_p, hp_fd, e, if_pos, hk, Option.bind_some]; exact g
theorem ok_oS {fs : List Value} {x : Nat} {f : Option Nat → Option β} (e : rd Ev h q = some (.inr (c, fs))) (hk : fs[k]? = some (.ref x)) (g : Ok (f (some x)) P) : Ok ((hp_o Ev h q c k).bind f) P := by
  simp only [hp_o, hp_fd, e, if_pos, hk, Option.bind_some]; exact g
theorem ok_oN {fs : List Value} {f : Option Nat → Option β} (e : rd Ev h q = some (.inr (c, fs))) (hk : fs[k]? = some .null) (g : Ok (f none) P) : Ok ((hp_o Ev h q c k).bind f) P := by
  simp only [hp_o, hp_fd, e, if_pos, hk, Option.bind_some]; exact g
theorem ok_o {fs : List Value} {x : Option Nat} {f : Option Nat → Option β} (e : rd Ev h q = some (.inr (c, fs))) (hk : fs[k]? = some (va_rf x)) (g : Ok (f x) P) : Ok ((hp_o Ev h q c k).bind f) P := by
  cases x
  · exact ok_oN e hk g
  · exact ok_oS e hk g
theorem ok_j {fs : List Value} {x : Int64} {f : Int64 → Option β} (e : rd Ev h q = some (.inr (c, fs))) (hk : fs[k]? = some (.long x)) (g : Ok (f x) P) : Ok ((hp_j Ev h q c k).bind f) P := by
  simp only [hp_j, hp_fd, e, if_pos, hk, Option.bind_some]; exact g
theorem ok_k {fs : List Value} {f : Unit → Option β} (e : rd Ev h q = some (.inr (c, fs))) (g : Ok (f ()) P) : Ok ((hp_k Ev h q c).bind f) P := by
  simp only [hp_k, hp_cls, e, if_pos, Option.bind_some]; exact g
theorem ok_cls {fs : List Value} {f : Nat → Option β} (e : rd Ev h q = some (.inr (c, fs))) (g : Ok (f c) P) : Ok ((hp_cls Ev h q).bind f) P := by
  simp only [hp_cls, e, Option.bind_some]; exact g
theorem ok_isa1 {fs : List Value} {A B : List Nat} {f : Int32 → Option β} (e : rd Ev h q = some (.inr (c, fs))) (hc : c ∈ A) (g : Ok (f 1) P) : Ok ((hp_isa Ev h q A B).bind f) P := by
  simp only [hp_isa, hp_cls, e, if_pos hc, Option.bind_some]; exact g
theorem ok_isa0 {fs : List Value} {A B : List Nat} {f : Int32 → Option β} (e : rd Ev h q = some (.inr (c, fs))) (hc : c ∉ A) (hd : c ∈ B) (g : Ok (f 0) P) : Ok ((hp_isa Ev h q A B).bind f) P := by
  simp only [hp_isa, hp_cls, e, if_neg hc, if_pos hd, Option.bind_some]; exact g
theorem ok_ca {fs : List Value} {A : List Nat} {f : Unit → Option β} (e : rd Ev h q = some (.inr (c, fs))) (hc : c ∈ A) (g : Ok (f ()) P) : Ok ((hp_ca Ev h q A).bind f) P := by
  simp only [hp_ca, hp_cls, e, if_pos hc, Option.bind_some]; exact g
theorem ok_len {t n : Nat} {x : (Nat → Int32) ⊕ (Nat → Int64) ⊕ (Nat → UInt32) ⊕ (Nat → UInt64) ⊕ (Nat → Option Nat)} {f : Nat → Option β} (e : rd Ev h q = some (.inl (eA Ev t, n, x))) (g : Ok (f n) P) : Ok ((hp_len Ev h q t).bind f) P := by
  simp only [hp_len, e, if_pos, Option.bind_some]; exact g
theorem ok_il {n j : Nat} {i : Int32} {y : Nat → Int32} {f : Int32 → Option β} (e : rd Ev h q = some (.inl (eA Ev 0, n, .inl y))) (hi : i = nI j) (hj : j < n) (hn : n < 2 ^ 31) (g : Ok (f (y j)) P) : Ok ((hp_il Ev h q i).bind f) P := by
  subst hi
  have hcl := nI_clamp (Nat.lt_trans hj hn)
  have h1 := nI_in hj hn
  rw [hcl] at h1
  simp only [hp_il, e, hcl, h1, not_false_eq_true, and_self, and_true, true_and, if_true, Option.bind_some]; exact g
theorem ok_bl {n j : Nat} {i : Int32} {y : Nat → Int32} {f : Int32 → Option β} (e : rd Ev h q = some (.inl (eA Ev 1, n, .inl y))) (hi : i = nI j) (hj : j < n) (hn : n < 2 ^ 31) (g : Ok (f (y j)) P) : Ok ((hp_bl Ev h q i).bind f) P := by
  subst hi
  have hcl := nI_clamp (Nat.lt_trans hj hn)
  have h1 := nI_in hj hn
  rw [hcl] at h1
  simp only [hp_bl, e, hcl, h1, not_false_eq_true, and_self, and_true, true_and, if_true, Option.bind_some]; exact g
theorem ok_zl {n j : Nat} {i : Int32} {y : Nat → Int32} {f : Int32 → Option β} (e : rd Ev h q = some (.inl (eA Ev 2, n, .inl y))) (hi : i = nI j) (hj : j < n) (hn : n < 2 ^ 31) (g : Ok (f (y j)) P) : Ok ((hp_zl Ev h q i).bind f) P := by
  subst hi
  have hcl := nI_clamp (Nat.lt_trans hj hn)
  have h1 := nI_in hj hn
  rw [hcl] at h1
  simp only [hp_zl, e, hcl, h1, not_false_eq_true, and_self, and_true, true_and, if_true, Option.bind_some]; exact g
theorem ok_ll {n j : Nat} {i : Int32} {y : Nat → Int64} {f : Int64 → Option β} (e : rd Ev h q = some (.inl (eA Ev 4, n, .inr (.inl y)))) (hi : i = nI j) (hj : j < n) (hn : n < 2 ^ 31) (g : Ok (f (y j)) P) : Ok ((hp_ll Ev h q i).bind f) P := by
  subst hi
  have hcl := nI_clamp (Nat.lt_trans hj hn)
  have h1 := nI_in hj hn
  rw [hcl] at h1
  simp only [hp_ll, e, hcl, h1, not_false_eq_true, and_self, and_true, true_and, if_true, Option.bind_some]; exact g
theorem ok_ao {t n j : Nat} {i : Int32} {y : Nat → Option Nat} {f : Option Nat → Option β} (e : rd Ev h q = some (.inl (eA Ev t, n, aQ y))) (hi : i = nI j) (hj : j < n) (hn : n < 2 ^ 31) (g : Ok (f (y j)) P) : Ok ((hp_ao Ev h t q i).bind f) P := by
  subst hi
  have hcl := nI_clamp (Nat.lt_trans hj hn)
  have h1 := nI_in hj hn
  rw [hcl] at h1
  simp only [hp_ao, e, hcl, h1, not_false_eq_true, and_self, and_true, true_and, if_true, Option.bind_some]; exact g
theorem ok_ap {t n j x : Nat} {i : Int32} {y : Nat → Option Nat} {f : Nat → Option β} (e : rd Ev h q = some (.inl (eA Ev t, n, aQ y))) (hi : i = nI j) (hj : j < n) (hn : n < 2 ^ 31) (hx : y j = some x) (g : Ok (f x) P) : Ok ((hp_ap Ev h t q i).bind f) P := by
  subst hi
  have hcl := nI_clamp (Nat.lt_trans hj hn)
  have h1 := nI_in hj hn
  rw [hcl] at h1
  simp only [hp_ap, hp_ao, e, hcl, h1, not_false_eq_true, and_self, and_true, true_and, if_true, Option.bind_some, hx, id]; exact g
/-! writes -/
theorem rd_own {q : Nat} {e : va_E} (o : eK Ev q = none) (x : rd Ev h q = some e) : h q = some e := by
  unfold rd at x
  split at x
  · next e' he => rw [he]; exact x
  · rw [o] at x; cases x
theorem ok_put {fs : List Value} {v : Value} {f : AH → Option β} (o : eK Ev q = none) (e : rd Ev h q = some (.inr (c, fs))) (hk : k < fs.length) (g : Ok (f (va_up h q (some (.inr (c, fs.set k v))))) P) : Ok ((hp_put h q c k v).bind f) P := by
  have e' := rd_own o e
  simp only [hp_put, e', hk, and_self, if_true, Option.bind_some]; exact g
theorem ok_is {n j : Nat} {i x : Int32} {y : Nat → Int32} {f : AH → Option β} (o : eK Ev q = none) (e : rd Ev h q = some (.inl (eA Ev 0, n, .inl y))) (hi : i = nI j) (hj : j < n) (hn : n < 2 ^ 31) (g : Ok (f (va_up h q (some (.inl (eA Ev 0, n, .inl (upd y j x)))))) P) : Ok ((hp_is Ev h q i x).bind f) P := by
  subst hi
  have e' := rd_own o e
  have hcl := nI_clamp (Nat.lt_trans hj hn)
  have h1 := nI_in hj hn
  rw [hcl] at h1
  simp only [hp_is, e', hcl, h1, not_false_eq_true, and_self, and_true, true_and, if_true, Option.bind_some]; exact g
theorem ok_bs {n j : Nat} {i x z : Int32} {y : Nat → Int32} {f : AH → Option β} (o : eK Ev q = none) (e : rd Ev h q = some (.inl (eA Ev 1, n, .inl y))) (hi : i = nI j) (hj : j < n) (hn : n < 2 ^ 31) (hz : vp_nar .byte x = z) (g : Ok (f (va_up h q (some (.inl (eA Ev 1, n, .inl (upd y j z)))))) P) : Ok ((hp_bs Ev h q i x).bind f) P := by
  subst hi hz
  have e' := rd_own o e
  have hcl := nI_clamp (Nat.lt_trans hj hn)
  have h1 := nI_in hj hn
  rw [hcl] at h1
  simp only [hp_bs, e', hcl, h1, not_false_eq_true, and_self, and_true, true_and, if_true, Option.bind_some]; exact g
theorem ok_zs {n j : Nat} {i x z : Int32} {y : Nat → Int32} {f : AH → Option β} (o : eK Ev q = none) (e : rd Ev h q = some (.inl (eA Ev 2, n, .inl y))) (hi : i = nI j) (hj : j < n) (hn : n < 2 ^ 31) (hz : vp_nar .boolean x = z) (g : Ok (f (va_up h q (some (.inl (eA Ev 2, n, .inl (upd y j z)))))) P) : Ok ((hp_zs Ev h q i x).bind f) P := by
  subst hi hz
  have e' := rd_own o e
  have hcl := nI_clamp (Nat.lt_trans hj hn)
  have h1 := nI_in hj hn
  rw [hcl] at h1
  simp only [hp_zs, e', hcl, h1, not_false_eq_true, and_self, and_true, true_and, if_true, Option.bind_some]; exact g
theorem ok_ls {n j : Nat} {i : Int32} {x : Int64} {y : Nat → Int64} {f : AH → Option β} (o : eK Ev q = none) (e : rd Ev h q = some (.inl (eA Ev 4, n, .inr (.inl y)))) (hi : i = nI j) (hj : j < n) (hn : n < 2 ^ 31) (g : Ok (f (va_up h q (some (.inl (eA Ev 4, n, .inr (.inl (vp_updL y j x))))))) P) : Ok ((hp_ls Ev h q i x).bind f) P := by
  subst hi
  have e' := rd_own o e
  have hcl := nI_clamp (Nat.lt_trans hj hn)
  have h1 := nI_in hj hn
  rw [hcl] at h1
  simp only [hp_ls, e', hcl, h1, not_false_eq_true, and_self, and_true, true_and, if_true, Option.bind_some]; exact g
theorem ok_as {t n j : Nat} {i : Int32} {x : Option Nat} {y : Nat → Option Nat} {f : AH → Option β} (o : eK Ev q = none) (e : rd Ev h q = some (.inl (eA Ev t, n, aQ y))) (hi : i = nI j) (hj : j < n) (hn : n < 2 ^ 31) (g : Ok (f (va_up h q (some (.inl (eA Ev t, n, aQ (va_up y j x)))))) P) : Ok ((hp_as Ev h t q i x).bind f) P := by
  subst hi
  have e' := rd_own o e
  have hcl := nI_clamp (Nat.lt_trans hj hn)
  have h1 := nI_in hj hn
  rw [hcl] at h1
  simp only [hp_as, e', hcl, h1, not_false_eq_true, and_self, and_true, true_and, if_true, Option.bind_some]; exact g
theorem ok_cpi {t n0 n1 a b m : Nat} {ty : FieldType} {src dst : Nat} {sp dp l : Int32} {y z : Nat → Int32} {f : AH → Option β} (o : eK Ev dst = none) (e : rd Ev h src = some (.inl (eA Ev t, n0, .inl y))) (e1 : rd Ev h dst = some (.inl (eA Ev t, n1, .inl z))) (ha : sp = nI a) (hb : dp = nI b) (hm : l = nI m) (h1 : a + m ≤ n0) (h2 : b + m ≤ n1) (hn : n0 < 2 ^ 31) (hn1 : n1 < 2 ^ 31) (hf : ∀ i, i < m → fits ty (.int (y (a + i))) = true) (g : Ok (f (va_up h dst (some (.inl (eA Ev t, n1, .inl (va_cpy y z a b m)))))) P) : Ok ((hp_cpi Ev h t ty src sp dst dp l).bind f) P := by
  subst ha hb hm
  have e' := rd_own o e1
  have ca := nI_clamp (show a < 2 ^ 31 by omega)
  have cb := nI_clamp (show b < 2 ^ 31 by omega)
  have cm := nI_clamp (show m < 2 ^ 31 by omega)
  have hv : hp_cpi Ev h t ty src (nI a) dst (nI b) (nI m) = some (va_up h dst (some (.inl (eA Ev t, n1, .inl (va_cpy y z a b m))))) := by
    unfold hp_cpi
    rw [e, e']
    show (if (eA Ev t = eA Ev t ∧ eA Ev t = eA Ev t ∧ ¬ nI a < 0 ∧ ¬ nI b < 0 ∧ ¬ nI m < 0 ∧ (nI a).toNatClampNeg + (nI m).toNatClampNeg ≤ n0 ∧ (nI b).toNatClampNeg + (nI m).toNatClampNeg ≤ n1) ∧ (∀ i, i < (nI m).toNatClampNeg → fits ty (.int (y ((nI a).toNatClampNeg + i))) = true) then some (va_up h dst (some (.inl (eA Ev t, n1, .inl (va_cpy y z (nI a).toNatClampNeg (nI b).toNatClampNeg (nI m).toNatClampNeg))))) else none) = _
    rw [ca, cb, cm]
    exact if_pos ⟨⟨rfl, rfl, nI_pos (by omega), nI_pos (by omega), nI_pos (by omega), h1, h2⟩, hf⟩
  rw [hv]; exact g
theorem ok_sp {C nm : String} {x : Nat} {f : Nat → Option β} (e : eV Ev C nm = .ref x) (g : Ok (f x) P) : Ok ((hp_sp Ev C nm).bind f) P := by
  simp only [hp_sp, e, Option.bind_some]; exact g
theorem ok_so {C nm : String} {x : Option Nat} {f : Option Nat → Option β} (e : eV Ev C nm = va_rf x) (g : Ok (f x) P) : Ok ((hp_so Ev C nm).bind f) P := by
  cases x <;> (simp only [hp_so, e, va_rf, Option.bind_some]; exact g)
end OKS
theorem hp_en_k {Ev : rb_E} (hp : rb_pf Ev) {k : Nat} (hk : k < 6) : hp_en Ev (eN Ev k) = some k := by
  have hinj := hp.2.2.2.2.1
  unfold hp_en
  rw [List.find?_eq_some_iff_getElem]
  refine ⟨by simp, k, by simpa using hk, by simp, fun j hj => ?_⟩
  have : j < 6 := by omega
  simp only [List.getElem_range, Bool.not_eq_true', beq_eq_false_iff_ne, ne_eq]
  intro he
  have := hinj j k (by omega) hk he
  omega
