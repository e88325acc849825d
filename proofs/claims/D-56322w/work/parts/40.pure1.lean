set_option maxRecDepth 100000
set_option linter.unusedVariables false
/-! PLAIN LAWS: characters, texts, trees -/
abbrev TT : Type := Lean.Data.AC.Expr
def tO (p c : Nat) : TT := .op (.var p) (.var c)
def tC (p : Nat) (t : TT) : TT := .op (.var p) (.op (.var 0) t)
def tA (p o : Nat) (a b : TT) : TT := .op (.var p) (.op (.op (.var o) a) b)
def z_sg (c : Nat) : Nat := if c = 43 then 0 else if c = 45 then 1 else if c = 42 then 2 else if c = 37 then 3 else if c = 94 then 4 else if c = 38 then 5 else if c = 126 then 6 else 7
def z_opd (c : Nat) : Bool := decide (48 ≤ c ∧ c ≤ 57 ∨ 65 ≤ c ∧ c ≤ 69)
def z_op (c : Nat) : Bool := decide (z_sg c < 6)
/-- where the draft breaks; none: it is an expression -/
def z_brk : List Nat → Nat → Bool → Nat → Option Nat
  | [], d, w, p => if w || decide (0 < d) then some p else none
  | c :: r, d, true, p => if z_opd c then z_brk r d false (p + 1) else if c = 126 then z_brk r d true (p + 1) else if c = 40 then z_brk r (d + 1) true (p + 1) else some p
  | c :: r, d, false, p => if z_op c then z_brk r d true (p + 1) else if c = 41 ∧ 0 < d then z_brk r (d - 1) false (p + 1) else some p
theorem z_op_cases {o : Nat} (h : z_op o = true) : o = 43 ∨ o = 45 ∨ o = 42 ∨ o = 37 ∨ o = 94 ∨ o = 38 := by
  by_cases c1 : o = 43
  · exact Or.inl c1
  by_cases c2 : o = 45
  · exact Or.inr (Or.inl c2)
  by_cases c3 : o = 42
  · exact Or.inr (Or.inr (Or.inl c3))
  by_cases c4 : o = 37
  · exact Or.inr (Or.inr (Or.inr (Or.inl c4)))
  by_cases c5 : o = 94
  · exact Or.inr (Or.inr (Or.inr (Or.inr (Or.inl c5))))
  by_cases c6 : o = 38
  · exact Or.inr (Or.inr (Or.inr (Or.inr (Or.inr c6))))
  by_cases c7 : o = 126
  · simp [z_op, z_sg, c7] at h
  · simp [z_op, z_sg, c1, c2, c3, c4, c5, c6, c7] at h
theorem z_op_ne {o : Nat} (h : z_op o = true) : o ≠ 40 ∧ o ≠ 41 ∧ o ≠ 126 ∧ z_opd o = false := by
  rcases z_op_cases h with rfl | rfl | rfl | rfl | rfl | rfl <;> decide
theorem z_opd_ne {c : Nat} (h : z_opd c = true) : c ≠ 40 ∧ c ≠ 41 ∧ c ≠ 126 ∧ z_op c = false := by
  refine ⟨?_, ?_, ?_, ?_⟩
  · rintro rfl; simp [z_opd] at h
  · rintro rfl; simp [z_opd] at h
  · rintro rfl; simp [z_opd] at h
  · cases hh : z_op c
    · rfl
    · have := (z_op_ne hh).2.2.2
      rw [h] at this; cases this
/-- how far a sun is closed -/
def z_cl : List Nat → Nat → Option Nat
  | [], _ => none
  | c :: r, d => if c = 40 then (z_cl r (d + 1)).map (· + 1) else if c = 41 then (if d = 1 then some 1 else (z_cl r (d - 1)).map (· + 1)) else (z_cl r d).map (· + 1)
/-- how far the first unit reaches: clouds and a core -/
def z_un : List Nat → Option Nat
  | [] => none
  | c :: r => if c = 126 then (z_un r).map (· + 1) else if c = 40 then (z_cl r 1).map (· + 1) else some 1
def Un (u : List Nat) : Prop := ∀ rest, z_un (u ++ rest) = some u.length
def Bal (u : List Nat) : Prop := ∀ rest d, 1 ≤ d → z_cl (u ++ rest) d = (z_cl rest d).map (· + u.length)
theorem Bal.nil : Bal [] := fun rest d _ => by simp
theorem Bal.app {u v : List Nat} (h1 : Bal u) (h2 : Bal v) : Bal (u ++ v) := fun rest d hd => by
  rw [List.append_assoc, h1 _ _ hd, h2 _ _ hd, Option.map_map, List.length_append]
  congr 1
  funext x
  simp only [Function.comp]
  omega
theorem Bal.one {c : Nat} (h1 : c ≠ 40) (h2 : c ≠ 41) : Bal [c] := fun rest d hd => by
  simp [z_cl, h1, h2]
theorem Bal.sun {u : List Nat} (h : Bal u) : Bal (40 :: u ++ [41]) := fun rest d hd => by
  have e : (40 :: u ++ [41]) ++ rest = 40 :: (u ++ (41 :: rest)) := by simp
  rw [e, z_cl, if_pos rfl, h _ _ (by omega), z_cl, if_neg (by decide), if_pos rfl, if_neg (by omega), Option.map_map, Option.map_map, Nat.add_sub_cancel]
  congr 1
  funext x
  simp only [Function.comp, List.length_append, List.length_cons, List.length_nil]
  omega
theorem Bal.close {u : List Nat} (h : Bal u) (rest : List Nat) : z_cl (u ++ 41 :: rest) 1 = some (u.length + 1) := by
  rw [h _ _ (by omega), z_cl, if_neg (by decide), if_pos rfl, if_pos rfl, Option.map_some, Nat.add_comm]
theorem Un.opd {c : Nat} (h1 : c ≠ 40) (h2 : c ≠ 126) : Un [c] := fun rest => by
  simp [z_un, h1, h2]
theorem Un.cloud {u : List Nat} (h : Un u) : Un (126 :: u) := fun rest => by
  rw [List.cons_append, z_un, if_pos rfl, h, Option.map_some, List.length_cons]
theorem Un.sun {u : List Nat} (h : Bal u) : Un (40 :: u ++ [41]) := fun rest => by
  have e : (40 :: u ++ [41]) ++ rest = 40 :: (u ++ (41 :: rest)) := by simp
  rw [e, z_un, if_neg (by decide), if_pos rfl, h.close, Option.map_some]
  simp
def isC : List Nat → Bool
  | c :: _ => decide (c = 126)
  | [] => false
/-- operators and units behind the first unit -/
def ft : List (Nat × List Nat) → List Nat
  | [] => []
  | (o, u) :: l => o :: (u ++ ft l)
theorem ft_app (l1 l2 : List (Nat × List Nat)) : ft (l1 ++ l2) = ft l1 ++ ft l2 := by
  induction l1 with
  | nil => rfl
  | cons x l1 ih => obtain ⟨o, u⟩ := x; simp [ft, ih]
def OKl (l : List (Nat × List Nat)) : Prop := ∀ x ∈ l, z_op x.1 = true ∧ Un x.2 ∧ Bal x.2 ∧ x.2 ≠ []
theorem OKl.bal {l : List (Nat × List Nat)} (h : OKl l) : Bal (ft l) := by
  induction l with
  | nil => exact Bal.nil
  | cons x l ih =>
    obtain ⟨o, u⟩ := x
    have h1 := h (o, u) List.mem_cons_self
    have h2 := z_op_ne h1.1
    have := (Bal.one h2.1 h2.2.1).app (h1.2.2.1.app (ih fun y hy => h y (List.mem_cons_of_mem _ hy)))
    simpa [ft] using this
section TREES
variable (col : Nat → Nat) (rt : Nat → Bool)
/-- the operators that no cloud takes, with their places and colours -/
def cn : Bool → Nat → List (Nat × List Nat) → List (Nat × Nat)
  | _, _, [] => []
  | a, k, (o, u) :: l => if a && decide (col 6 < col (z_sg o)) then cn true (k + 1 + u.length) l else (k, col (z_sg o)) :: cn (isC u) (k + 1 + u.length) l
def en : Bool → List (Nat × List Nat) → Bool
  | a, [] => a
  | a, (o, u) :: l => if a && decide (col 6 < col (z_sg o)) then en true l else en (isC u) l
def pk : Option (Nat × Nat) → List (Nat × Nat) → Option (Nat × Nat)
  | b, [] => b
  | none, y :: r => pk (some y) r
  | some b, y :: r => if y.2 < b.2 ∨ y.2 = b.2 ∧ rt y.2 = false then pk (some y) r else pk (some b) r
theorem cn_shift (m : Nat) : ∀ (l : List (Nat × List Nat)) (a : Bool) (k : Nat), cn col a (k + m) l = (cn col a k l).map fun y => (y.1 + m, y.2)
  | [], _, _ => rfl
  | (o, u) :: l, a, k => by
    have e : k + m + 1 + u.length = (k + 1 + u.length) + m := by omega
    simp only [cn]
    split
    · rw [e, cn_shift m l]
    · rw [List.map_cons, e, cn_shift m l]
theorem cn_app : ∀ (l1 : List (Nat × List Nat)) (a : Bool) (k o : Nat) (v : List Nat) (l2 : List (Nat × List Nat)), (en col a l1 && decide (col 6 < col (z_sg o))) = false → cn col a k (l1 ++ (o, v) :: l2) = cn col a k l1 ++ (k + (ft l1).length, col (z_sg o)) :: cn col (isC v) (k + (ft l1).length + 1 + v.length) l2
  | [], a, k, o, v, l2, h => by
    simp only [en] at h
    simp [cn, ft, h]
  | (o1, u) :: l1, a, k, o, v, l2, h => by
    simp only [en] at h
    have e : ∀ x, k + (ft ((o1, u) :: l1)).length + x = (k + 1 + u.length) + (ft l1).length + x := fun x => by simp only [ft, List.length_cons, List.length_append]; omega
    have e0 := e 0
    simp only [Nat.add_zero] at e0
    simp only [List.cons_append, cn]
    split
    · next c => rw [if_pos c] at h; rw [cn_app l1 _ _ o v l2 h, e0]
    · next c => rw [if_neg c] at h; rw [cn_app l1 _ _ o v l2 h, e0]; simp
theorem en_app : ∀ (l1 : List (Nat × List Nat)) (a : Bool) (o : Nat) (v : List Nat) (l2 : List (Nat × List Nat)), (en col a l1 && decide (col 6 < col (z_sg o))) = false → en col a (l1 ++ (o, v) :: l2) = en col (isC v) l2
  | [], a, o, v, l2, h => by
    simp only [en] at h
    simp [en, h]
  | (o1, u) :: l1, a, o, v, l2, h => by
    simp only [en] at h
    simp only [List.cons_append, en]
    split
    · next c => rw [if_pos c] at h; exact en_app l1 _ o v l2 h
    · next c => rw [if_neg c] at h; exact en_app l1 _ o v l2 h
theorem cn_cloud : ∀ (l : List (Nat × List Nat)) (a : Bool) (k k' : Nat), (∀ y ∈ cn col a k l, col 6 < y.2) → cn col true k' l = [] ∧ en col true l = true
  | [], _, _, _, _ => ⟨rfl, rfl⟩
  | (o, u) :: l, a, k, k', h => by
    simp only [cn] at h
    simp only [cn, en]
    split at h
    · next c =>
      have c2 : col 6 < col (z_sg o) := by simp at c; exact c.2
      rw [if_pos (by simp [c2]), if_pos (by simp [c2])]
      exact cn_cloud l _ _ _ h
    · next c =>
      have c2 : col 6 < col (z_sg o) := h _ List.mem_cons_self
      rw [if_pos (by simp [c2]), if_pos (by simp [c2])]
      exact cn_cloud l _ _ _ fun y hy => h y (List.mem_cons_of_mem _ hy)
theorem pk_keep : ∀ (B : List (Nat × Nat)) (b : Nat × Nat), (∀ y ∈ B, b.2 ≤ y.2 ∧ (rt b.2 = false → b.2 < y.2)) → pk rt (some b) B = some b
  | [], _, _ => rfl
  | y :: B, b, h => by
    have h1 := h y List.mem_cons_self
    rw [pk, if_neg]
    · exact pk_keep B b fun z hz => h z (List.mem_cons_of_mem _ hz)
    · rintro (c | ⟨c, c2⟩)
      · omega
      · rw [c] at c2; have := h1.2 c2; omega
theorem pk_root : ∀ (A : List (Nat × Nat)) (b : Option (Nat × Nat)) (y : Nat × Nat) (B : List (Nat × Nat)), (∀ z ∈ A, y.2 ≤ z.2 ∧ (rt y.2 = true → y.2 < z.2)) → (∀ z, b = some z → y.2 ≤ z.2 ∧ (rt y.2 = true → y.2 < z.2)) → (∀ z ∈ B, y.2 ≤ z.2 ∧ (rt y.2 = false → y.2 < z.2)) → pk rt b (A ++ y :: B) = some y
  | [], none, y, B, _, _, hB => by
    rw [List.nil_append, pk]; exact pk_keep rt B y hB
  | [], some b, y, B, _, hb, hB => by
    have h1 := hb b rfl
    rw [List.nil_append, pk, if_pos]
    · exact pk_keep rt B y hB
    · rcases Nat.lt_or_ge y.2 b.2 with c | c
      · exact Or.inl c
      · have e : y.2 = b.2 := by omega
        refine Or.inr ⟨e, ?_⟩
        cases hr : rt y.2
        · rfl
        · have := h1.2 hr; omega
  | a :: A, none, y, B, hA, hb, hB => by
    rw [List.cons_append, pk]
    exact pk_root A _ y B (fun z hz => hA z (List.mem_cons_of_mem _ hz)) (fun z hz => by cases hz; exact hA a List.mem_cons_self) hB
  | a :: A, some b, y, B, hA, hb, hB => by
    rw [List.cons_append, pk]
    split
    · exact pk_root A _ y B (fun z hz => hA z (List.mem_cons_of_mem _ hz)) (fun z hz => by cases hz; exact hA a List.mem_cons_self) hB
    · exact pk_root A _ y B (fun z hz => hA z (List.mem_cons_of_mem _ hz)) hb hB
/-- w, from the place p on, has the tree t -/
def TR : Nat → Nat → List Nat → TT → Prop
  | 0, _, _, _ => False
  | n + 1, p, w, t => ∃ u0 l, w = u0 ++ ft l ∧ Un u0 ∧ u0 ≠ [] ∧ OKl l ∧ (
    (∃ k x o a b, pk rt none (cn col (isC u0) u0.length l) = some (k, x) ∧ w[k]? = some o ∧ x = col (z_sg o) ∧ z_op o = true ∧ t = tA (p + k) o a b ∧ TR n p (w.take k) a ∧ TR n (p + k + 1) (w.drop (k + 1)) b) ∨
    (pk rt none (cn col (isC u0) u0.length l) = none ∧ ((∃ w1 t1, w = 126 :: w1 ∧ t = tC p t1 ∧ TR n (p + 1) w1 t1) ∨ (∃ w1, w = 40 :: w1 ++ [41] ∧ TR n (p + 1) w1 t) ∨ (∃ c, w = [c] ∧ z_opd c = true ∧ t = tO p c))))
/-! the grower, on texts -/
abbrev Gself : Type := Nat → Nat → List Nat → Option (TT × Nat × List Nat)
def g_core (self : Gself) (p : Nat) : List Nat → Option (TT × Nat × List Nat)
  | [] => none
  | c :: r => if c = 126 then (self (col 6 + 1) (p + 1) r).map fun x => (tC p x.1, x.2.1, x.2.2)
    else if c = 40 then (self 0 (p + 1) r).bind fun x => match x.2.2 with
      | [] => none
      | _ :: r2 => some (x.1, x.2.1 + 1, r2)
    else some (tO p c, p + 1, r)
def g_loop (self : Gself) (c : Nat) : Nat → TT → Nat → List Nat → Option (TT × Nat × List Nat)
  | 0, _, _, _ => none
  | f + 1, t, p, s => match s with
    | [] => some (t, p, [])
    | o :: r => if z_op o = true ∧ c ≤ col (z_sg o) then (self (if rt (col (z_sg o)) = true then col (z_sg o) else col (z_sg o) + 1) (p + 1) r).bind fun x => g_loop self c f (tA p o t x.1) x.2.1 x.2.2
      else some (t, p, o :: r)
def g_part : Nat → Gself
  | 0, _, _, _ => none
  | d + 1, c, p, s => (g_core col (g_part d) p s).bind fun x => g_loop col rt (g_part d) c 4096 x.1 x.2.1 x.2.2
/-- what has been taken: a flat text with its tree -/
def Gd (p : Nat) (w s' : List Nat) (t : TT) (u0 : List Nat) (l : List (Nat × List Nat)) : Prop :=
  w = u0 ++ ft l ∧ Un u0 ∧ Bal u0 ∧ u0 ≠ [] ∧ OKl l ∧ (∀ n, w.length < n → TR col rt n p w t) ∧
  (∀ o r, s' = o :: r → z_op o = true → (en col (isC u0) l && decide (col 6 < col (z_sg o))) = false)
def Gpost (c dep p : Nat) (s : List Nat) (x : Option (TT × Nat × List Nat)) : Prop :=
  ∃ t w s' u0 l q', x = some (t, p + w.length, s') ∧ s = w ++ s' ∧ z_brk s' dep false q' = none ∧ Gd col rt p w s' t u0 l ∧
    (∀ y ∈ cn col (isC u0) u0.length l, c ≤ y.2) ∧ (∀ o r, s' = o :: r → z_op o = true → col (z_sg o) < c)
theorem g_core_ok (self : Gself) (N : Nat) (hs : ∀ (s : List Nat) (c dep p q : Nat), s.length < N → z_brk s dep true q = none → Gpost col rt c dep p s (self c p s)) (s : List Nat) (dep p q : Nat) (hN : s.length < N + 1) (hb : z_brk s dep true q = none) :
    ∃ t w s' u0 l q', g_core col self p s = some (t, p + w.length, s') ∧ s = w ++ s' ∧ z_brk s' dep false q' = none ∧ Gd col rt p w s' t u0 l ∧ cn col (isC u0) u0.length l = [] := by
  cases s with
  | nil => simp [z_brk] at hb
  | cons c r =>
    simp only [z_brk] at hb
    have hr : r.length < N := by simpa using hN
    split at hb
    · next ho =>
      have h1 := z_opd_ne ho
      refine ⟨tO p c, [c], r, [c], [], q + 1, ?_, rfl, hb, ⟨rfl, Un.opd h1.1 h1.2.2.1, Bal.one h1.1 h1.2.1, by simp, fun x hx => by simp at hx, ?_, ?_⟩, rfl⟩
      · simp [g_core, h1.1, h1.2.2.1]
      · intro n hn
        cases n with
        | zero => simp at hn
        | succ n => exact ⟨[c], [], rfl, Un.opd h1.1 h1.2.2.1, by simp, fun x hx => by simp at hx, Or.inr ⟨rfl, Or.inr (Or.inr ⟨c, rfl, ho, rfl⟩)⟩⟩
      · intro o r' _ _
        simp [en, isC, h1.2.2.1]
    · split at hb
      · next hc =>
        subst hc
        obtain ⟨t1, w1, s1, v0, l1, q1, e1, es, hz, ⟨g1, g2, g3, g4, g5, g6, g7⟩, hge, hst⟩ := hs r (col 6 + 1) dep (p + 1) (q + 1) hr hb
        have hcl := cn_cloud col l1 (isC v0) v0.length (126 :: v0).length fun y hy => Nat.lt_of_succ_le (hge y hy)
        refine ⟨tC p t1, 126 :: w1, s1, 126 :: v0, l1, q1, ?_, by rw [es]; rfl, hz, ⟨by rw [g1]; rfl, g2.cloud, (Bal.one (by decide) (by decide)).app g3, by simp, g5, ?_, ?_⟩, ?_⟩
        · simp only [g_core, if_pos, e1, Option.map_some, List.length_cons]
          congr 3
          omega
        · intro n hn
          cases n with
          | zero => simp at hn
          | succ n =>
            refine ⟨126 :: v0, l1, by rw [g1]; rfl, g2.cloud, by simp, g5, Or.inr ⟨?_, Or.inl ⟨w1, t1, rfl, rfl, g6 n (by simpa using hn)⟩⟩⟩
            show pk rt none (cn col (isC (126 :: v0)) (126 :: v0).length l1) = none
            have : isC (126 :: v0) = true := rfl
            rw [this, hcl.1]; rfl
        · intro o r' e ho
          have h3 := hst o r' e ho
          have : decide (col 6 < col (z_sg o)) = false := by simp; omega
          rw [this, Bool.and_false]
        · have : isC (126 :: v0) = true := rfl
          rw [this]; exact hcl.1
      · split at hb
        · next hc hc2 =>
          subst hc2
          obtain ⟨t1, w1, s1, v0, l1, q1, e1, es, hz, ⟨g1, g2, g3, g4, g5, g6, g7⟩, hge, hst⟩ := hs r 0 (dep + 1) (p + 1) (q + 1) hr hb
          cases s1 with
          | nil => simp [z_brk] at hz
          | cons o r2 =>
            simp only [z_brk] at hz
            split at hz
            · next ho => exact absurd (hst o r2 rfl ho) (by omega)
            · split at hz
              · next ho ho2 =>
                obtain ⟨ho2, -⟩ := ho2
                subst ho2
                have hbw : Bal w1 := by rw [g1]; exact g3.app g5.bal
                refine ⟨t1, 40 :: w1 ++ [41], r2, 40 :: w1 ++ [41], [], q1 + 1, ?_, by rw [es]; simp, hz, ⟨by simp [ft], Un.sun hbw, hbw.sun, by simp, fun x hx => by simp at hx, ?_, ?_⟩, rfl⟩
                · simp only [g_core, if_neg (show ¬ (40 : Nat) = 126 by decide), if_pos, e1, Option.bind_some, List.length_append, List.length_cons, List.length_nil]
                  congr 3
                  omega
                · intro n hn
                  cases n with
                  | zero => simp at hn
                  | succ n =>
                    refine ⟨40 :: w1 ++ [41], [], by simp [ft], Un.sun hbw, by simp, fun x hx => by simp at hx, Or.inr ⟨rfl, Or.inr (Or.inl ⟨w1, rfl, g6 n ?_⟩)⟩⟩
                    simp at hn; omega
                · intro o' r' _ _
                  simp [en, isC]
              · cases hz
        · cases hb
theorem g_loop_ok (self : Gself) (N c dep p : Nat) (hs : ∀ (s : List Nat) (c dep p q : Nat), s.length < N → z_brk s dep true q = none → Gpost col rt c dep p s (self c p s)) (s : List Nat) : ∀ (f : Nat) (t : TT) (w s' u0 : List Nat) (l : List (Nat × List Nat)) (q' : Nat), s'.length < f → s'.length < N + 1 → s = w ++ s' → z_brk s' dep false q' = none → Gd col rt p w s' t u0 l → (∀ y ∈ cn col (isC u0) u0.length l, c ≤ y.2) →
    (∀ o r, s' = o :: r → z_op o = true → ∀ y ∈ cn col (isC u0) u0.length l, col (z_sg o) ≤ y.2 ∧ (rt (col (z_sg o)) = true → col (z_sg o) < y.2)) → Gpost col rt c dep p s (g_loop col rt self c f t (p + w.length) s')
  | 0, _, _, _, _, _, _, h, _, _, _, _, _, _ => by omega
  | f + 1, t, w, [], u0, l, q', _, _, es, hz, hG, hge, hJ => ⟨t, w, [], u0, l, q', rfl, es, hz, hG, hge, fun o r e _ => by cases e⟩
  | f + 1, t, w, o :: r, u0, l, q', hf, hN, es, hz, hG, hge, hJ => by
    simp only [g_loop]
    split
    · next hc =>
      obtain ⟨ho, hcx⟩ := hc
      simp only [z_brk, ho, if_pos] at hz
      obtain ⟨t2, w2, s2, v0, l2, q2, e2, es2, hz2, ⟨k1, k2, k3, k4, k5, k6, k7⟩, hge2, hst2⟩ := hs r (if rt (col (z_sg o)) = true then col (z_sg o) else col (z_sg o) + 1) dep (p + w.length + 1) (q' + 1) (by simpa using hN) hz
      obtain ⟨g1, g2, g3, g4, g5, g6, g7⟩ := hG
      have hna := g7 o r rfl ho
      have hJo := hJ o r rfl ho
      have hwl : u0.length + (ft l).length = w.length := by rw [g1, List.length_append]
      have hB : ∀ y ∈ cn col (isC v0) (u0.length + (ft l).length + 1 + v0.length) l2, (if rt (col (z_sg o)) = true then col (z_sg o) else col (z_sg o) + 1) ≤ y.2 := by
        intro y hy
        rw [show u0.length + (ft l).length + 1 + v0.length = v0.length + (u0.length + (ft l).length + 1) by omega, cn_shift] at hy
        obtain ⟨z, hz1, rfl⟩ := List.mem_map.mp hy
        exact hge2 z hz1
      have hB2 : ∀ y ∈ cn col (isC v0) (u0.length + (ft l).length + 1 + v0.length) l2, col (z_sg o) ≤ y.2 ∧ (rt (col (z_sg o)) = false → col (z_sg o) < y.2) := by
        intro y hy
        have h1 := hB y hy
        split at h1
        · next hr => exact ⟨h1, fun h2 => by rw [hr] at h2; cases h2⟩
        · exact ⟨by omega, fun _ => by omega⟩
      have hcn := cn_app col l (isC u0) u0.length o v0 l2 hna
      have hen := en_app col l (isC u0) o v0 l2 hna
      have hx' : ∀ o' r', s2 = o' :: r' → z_op o' = true → col (z_sg o') ≤ col (z_sg o) ∧ (rt (col (z_sg o')) = true → col (z_sg o') < col (z_sg o)) := by
        intro o' r' e ho'
        have h1 := hst2 o' r' e ho'
        split at h1
        · exact ⟨by omega, fun _ => h1⟩
        · next hr =>
          refine ⟨by omega, fun h2 => ?_⟩
          rcases Nat.lt_or_ge (col (z_sg o')) (col (z_sg o)) with c1 | c1
          · exact c1
          · have : col (z_sg o') = col (z_sg o) := by omega
            rw [this] at h2; exact absurd h2 hr
      have hfl : w ++ o :: w2 = u0 ++ ft (l ++ (o, v0) :: l2) := by rw [ft_app, g1, k1]; simp [ft]
      have hOK : OKl (l ++ (o, v0) :: l2) := by
        intro x hx
        rcases List.mem_append.mp hx with hx | hx
        · exact g5 x hx
        · rcases List.mem_cons.mp hx with hx | hx
          · subst hx; exact ⟨ho, k2, k3, k4⟩
          · exact k5 x hx
      have hpost := g_loop_ok self N c dep p hs s f (tA (p + w.length) o t t2) (w ++ o :: w2) s2 u0 (l ++ (o, v0) :: l2) q2 (by rw [es2] at hf; simp at hf; omega) (by rw [es2] at hN; simp at hN; omega) (by rw [es, es2]; simp) hz2 ⟨hfl, g2, g3, g4, hOK, ?_, ?_⟩ ?_ ?_
      · rw [e2, Option.bind_some]
        have e3 : p + w.length + 1 + w2.length = p + (w ++ o :: w2).length := by simp; omega
        simp only [e3]
        exact hpost
      · intro n hn
        cases n with
        | zero => simp at hn
        | succ n =>
          refine ⟨u0, l ++ (o, v0) :: l2, hfl, g2, g4, hOK, Or.inl ⟨w.length, col (z_sg o), o, t, t2, ?_, by simp, rfl, ho, rfl, ?_, ?_⟩⟩
          · rw [hcn, hwl]
            rw [hwl] at hB2
            exact pk_root rt _ none (w.length, col (z_sg o)) _ hJo (fun z hz => by cases hz) hB2
          · rw [List.take_left']
            · exact g6 n (by simp at hn; omega)
            · rfl
          · have e4 : (w ++ o :: w2).drop (w.length + 1) = w2 := by
              rw [show w ++ o :: w2 = (w ++ [o]) ++ w2 by simp, List.drop_left']
              simp
            rw [e4]
            exact k6 n (by simp at hn; omega)
      · intro o' r' e ho'
        rw [hen]
        exact k7 o' r' e ho'
      · intro y hy
        rw [hcn] at hy
        rcases List.mem_append.mp hy with hy | hy
        · exact hge y hy
        · rcases List.mem_cons.mp hy with hy | hy
          · subst hy; exact hcx
          · have := (hB2 y hy).1; omega
      · intro o' r' e ho' y hy
        have h5 := hx' o' r' e ho'
        rw [hcn] at hy
        have h6 : col (z_sg o) ≤ y.2 := by
          rcases List.mem_append.mp hy with hy | hy
          · exact (hJo y hy).1
          · rcases List.mem_cons.mp hy with hy | hy
            · subst hy; exact Nat.le_refl _
            · exact (hB2 y hy).1
        exact ⟨by omega, fun h7 => by have := h5.2 h7; omega⟩
    · next hc =>
      refine ⟨t, w, o :: r, u0, l, q', rfl, es, hz, hG, hge, ?_⟩
      intro o' r' e ho'
      cases e
      rcases Nat.lt_or_ge (col (z_sg o)) c with c1 | c1
      · exact c1
      · exact absurd ⟨ho', c1⟩ hc
theorem g_part_ok : ∀ (d : Nat) (s : List Nat) (c dep p q : Nat), s.length < d → d ≤ 4000 → z_brk s dep true q = none → Gpost col rt c dep p s (g_part col rt d c p s)
  | 0, s, c, dep, p, q, h, _, _ => by omega
  | d + 1, s, c, dep, p, q, h, hd, hb => by
    have hs : ∀ (s : List Nat) (c dep p q : Nat), s.length < d → z_brk s dep true q = none → Gpost col rt c dep p s (g_part col rt d c p s) := fun s c dep p q h1 h2 => g_part_ok d s c dep p q h1 (by omega) h2
    obtain ⟨t, w, s', u0, l, q', e, es, hz, hG, hc⟩ := g_core_ok col rt (g_part col rt d) d hs s dep p q h hb
    have hl : s.length = w.length + s'.length := by rw [es, List.length_append]
    have := g_loop_ok col rt (g_part col rt d) d c dep p hs s 4096 t w s' u0 l q' (by omega) (by omega) es hz hG (by rw [hc]; intro y hy; cases hy) (by rw [hc]; intro o r _ _ y hy; cases hy)
    simp only [g_part, e, Option.bind_some]
    exact this
/-- the tree of a whole expression -/
theorem g_whole {w : List Nat} {d p q : Nat} (hd : w.length < d) (hd2 : d ≤ 4000) (hb : z_brk w 0 true q = none) : ∃ t, g_part col rt d 0 p w = some (t, p + w.length, []) ∧ ∀ n, w.length < n → TR col rt n p w t := by
  obtain ⟨t, w1, s', u0, l, q', e, es, hz, hG, -, hst⟩ := g_part_ok col rt d w 0 0 p q hd hd2 hb
  cases s' with
  | nil =>
    rw [List.append_nil] at es
    subst es
    exact ⟨t, e, hG.2.2.2.2.2.1⟩
  | cons o r =>
    simp only [z_brk] at hz
    split at hz
    · next ho => exact absurd (hst o r rfl ho) (by omega)
    · split at hz
      · next h1 => omega
      · cases hz
end TREES
