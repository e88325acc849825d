set_option maxRecDepth 100000
set_option linter.unusedVariables false
/-! PLAIN LAWS: what is read off a tree; the row of values -/
def t_val (val : Nat → Nat) (ap : Nat → Nat → Nat → Nat) : TT → Nat
  | .op (.var _) (.var c) => val c
  | .op (.var _) (.op (.var _) t) => 999 - t_val val ap t
  | .op (.var _) (.op (.op (.var o) a) b) => ap o (t_val val ap a) (t_val val ap b)
  | _ => 0
def t_hei : TT → Nat
  | .op (.var _) (.op (.var _) t) => 1 + t_hei t
  | .op (.var _) (.op (.op (.var _) a) b) => 1 + max (t_hei a) (t_hei b)
  | _ => 0
def t_full : TT → List Nat
  | .op (.var _) (.var c) => [c]
  | .op (.var _) (.op (.var _) t) => 40 :: 126 :: (t_full t ++ [41])
  | .op (.var _) (.op (.op (.var o) a) b) => 40 :: (t_full a ++ o :: (t_full b ++ [41]))
  | _ => []
section COMP
variable (col : Nat → Nat) (rt : Nat → Bool) (val : Nat → Nat) (ap : Nat → Nat → Nat → Nat)
theorem t_val_O (p c : Nat) : t_val val ap (tO p c) = val c := by simp [tO, t_val]
theorem t_val_C (p : Nat) (t : TT) : t_val val ap (tC p t) = 999 - t_val val ap t := by simp [tC, t_val]
theorem t_val_A (p o : Nat) (a b : TT) : t_val val ap (tA p o a b) = ap o (t_val val ap a) (t_val val ap b) := by simp [tA, t_val]
def c_ap (s : Nat) (V : List Nat) : Option (List Nat) := if s = 126 then (match V with
  | b :: V' => some ((999 - b) :: V')
  | [] => none) else (match V with
  | b :: a :: V' => some (ap s a b :: V')
  | _ => none)
def c_sun : List Nat → List Nat → Option (List Nat × List Nat)
  | [], V => some (V, [])
  | s :: W, V => if s = 40 then some (V, s :: W) else (c_ap ap s V).bind fun V' => c_sun W V'
def c_ahead (o s : Nat) : Bool := if s = 40 then false else decide (col (z_sg o) < col (z_sg s)) || (decide (col (z_sg s) = col (z_sg o)) && (decide (s = 126) || !rt (col (z_sg o))))
def c_op (o : Nat) : List Nat → List Nat → Option (List Nat × List Nat)
  | [], V => some (V, [o])
  | s :: W, V => if c_ahead col rt o s then (c_ap ap s V).bind fun V' => c_op o W V' else some (V, o :: s :: W)
def c_rd (c : Nat) (V W : List Nat) : Option (List Nat × List Nat) :=
  if z_opd c then some (val c :: V, W)
  else if c = 41 then (c_sun ap W V).bind fun x => match x.2 with
    | [] => none
    | _ :: W' => some (x.1, W')
  else if z_op c then c_op col rt ap c W V
  else some (V, c :: W)
def c_run : List Nat → List Nat → List Nat → Option (List Nat × List Nat)
  | [], V, W => c_sun ap W V
  | c :: r, V, W => (c_rd col rt val ap c V W).bind fun x => c_run r x.1 x.2
/-- the sign below is not applied ahead of an operator of a colour from c on -/
def c_bar (c : Nat) (W : List Nat) : Prop := ∀ o s W', z_op o = true → c ≤ col (z_sg o) → W = s :: W' → c_ahead col rt o s = false
/-- what may follow a part: an end, a sun, an operator below c -/
def c_fol (c : Nat) (s' : List Nat) : Prop := ∀ o r, s' = o :: r → o = 41 ∨ z_op o = true ∧ col (z_sg o) < c
theorem c_fol_of {c dep q : Nat} {s' : List Nat} (hz : z_brk s' dep false q = none) (hst : ∀ o r, s' = o :: r → z_op o = true → col (z_sg o) < c) : c_fol col c s' := by
  intro o r e
  subst e
  simp only [z_brk] at hz
  split at hz
  · next ho => exact Or.inr ⟨ho, hst o r rfl ho⟩
  · split at hz
    · next h => exact Or.inl h.1
    · cases hz
/-- a sign that waits is applied before what follows -/
theorem c_run_pop {s' V V' W : List Nat} {s : Nat} (hs : s ≠ 40) (hV : c_ap ap s V = some V') (hf : ∀ o r, s' = o :: r → o = 41 ∨ z_op o = true ∧ c_ahead col rt o s = true) : c_run col rt val ap s' V (s :: W) = c_run col rt val ap s' V' W := by
  cases s' with
  | nil => simp [c_run, c_sun, hs, hV]
  | cons o r =>
    rcases hf o r rfl with rfl | ⟨ho, ha⟩
    · have h1 : z_opd 41 = false := by decide
      simp [c_run, c_rd, c_sun, hs, hV, h1]
    · have h1 := z_op_ne ho
      simp [c_run, c_rd, c_op, h1, ho, ha, hV]
theorem c_core_ok (self : Gself) (N : Nat) (hg : ∀ (s : List Nat) (c dep p q : Nat), s.length < N → z_brk s dep true q = none → Gpost col rt c dep p s (self c p s)) (hs : ∀ (s : List Nat) (c dep p q : Nat) (t : TT) (p' : Nat) (s' V W : List Nat), s.length < N → z_brk s dep true q = none → self c p s = some (t, p', s') → c_bar col rt c W → c_run col rt val ap s V W = c_run col rt val ap s' (t_val val ap t :: V) W)
    (s : List Nat) (dep p q : Nat) (t : TT) (p' : Nat) (s' V W : List Nat) (hN : s.length < N + 1) (hb : z_brk s dep true q = none) (e : g_core col self p s = some (t, p', s')) : c_run col rt val ap s V W = c_run col rt val ap s' (t_val val ap t :: V) W := by
  cases s with
  | nil => simp [g_core] at e
  | cons c r =>
    simp only [z_brk] at hb
    have hr : r.length < N := by simpa using hN
    simp only [g_core] at e
    split at hb
    · next ho =>
      have h1 := z_opd_ne ho
      rw [if_neg h1.2.2.1, if_neg h1.1] at e
      cases e
      simp [c_run, c_rd, ho, t_val_O]
    · next ho =>
      split at hb
      · next hc =>
        subst hc
        rw [if_pos rfl] at e
        obtain ⟨⟨t1, p1, s1⟩, e1, e2⟩ := Option.map_eq_some_iff.mp e
        cases e2
        have hbar : c_bar col rt (col 6 + 1) (126 :: W) := by
          intro o s W' ho hc e
          cases e
          have e6 : z_sg 126 = 6 := rfl
          simp only [c_ahead, if_neg (show ¬ (126 : Nat) = 40 by decide), e6]
          rw [decide_eq_false (by omega), decide_eq_false (by omega)]
          rfl
        have h2 := hs r (col 6 + 1) dep (p + 1) (q + 1) t1 p1 s1 V (126 :: W) hr hb e1 hbar
        obtain ⟨t2, w2, s2, v0, l2, q2, e3, es, hz, -, -, hst⟩ := hg r (col 6 + 1) dep (p + 1) (q + 1) hr hb
        rw [e1] at e3
        cases e3
        have h3 : c_run col rt val ap (126 :: r) V W = c_run col rt val ap r V (126 :: W) := by
          simp [c_run, c_rd, show z_opd 126 = false by decide, show z_op 126 = false by decide]
        rw [h3, h2]
        refine c_run_pop col rt val ap (by decide) (by simp [c_ap, t_val_C]) ?_
        intro o r' e
        rcases c_fol_of col hz hst o r' e with rfl | ⟨ho, hlt⟩
        · exact Or.inl rfl
        · refine Or.inr ⟨ho, ?_⟩
          have e6 : z_sg 126 = 6 := rfl
          simp only [c_ahead, if_neg (show ¬ (126 : Nat) = 40 by decide), e6, decide_true, Bool.true_or, Bool.and_true]
          rcases Nat.lt_or_ge (col (z_sg o)) (col 6) with c1 | c1
          · simp [c1]
          · have : col 6 = col (z_sg o) := by omega
            simp [this]
      · next hc =>
        split at hb
        · next hc2 =>
          subst hc2
          rw [if_neg hc, if_pos rfl] at e
          obtain ⟨t2, w2, s2, v0, l2, q2, e3, es, hz, -, -, hst⟩ := hg r 0 (dep + 1) (p + 1) (q + 1) hr hb
          have hbar : c_bar col rt 0 (40 :: W) := by
            intro o s W' ho hc e
            cases e
            simp [c_ahead]
          have h2 := hs r 0 (dep + 1) (p + 1) (q + 1) t2 _ s2 V (40 :: W) hr hb e3 hbar
          rw [e3, Option.bind_some] at e
          cases s2 with
          | nil => cases e
          | cons o r2 =>
            cases e
            rcases c_fol_of col hz hst o _ rfl with rfl | ⟨-, hlt⟩
            · have h3 : c_run col rt val ap (40 :: r) V W = c_run col rt val ap r V (40 :: W) := by
                simp [c_run, c_rd, show z_opd 40 = false by decide, show z_op 40 = false by decide]
              rw [h3, h2]
              simp [c_run, c_rd, c_sun, show z_opd 41 = false by decide]
            · omega
        · cases hb
theorem c_loop_ok (self : Gself) (N c dep : Nat) (hg : ∀ (s : List Nat) (c dep p q : Nat), s.length < N → z_brk s dep true q = none → Gpost col rt c dep p s (self c p s)) (hs : ∀ (s : List Nat) (c dep p q : Nat) (t : TT) (p' : Nat) (s' V W : List Nat), s.length < N → z_brk s dep true q = none → self c p s = some (t, p', s') → c_bar col rt c W → c_run col rt val ap s V W = c_run col rt val ap s' (t_val val ap t :: V) W)
    : ∀ (f : Nat) (t : TT) (p : Nat) (s : List Nat) (q : Nat) (t' : TT) (p' : Nat) (s' V W : List Nat), s.length < N + 1 → z_brk s dep false q = none → c_bar col rt c W → g_loop col rt self c f t p s = some (t', p', s') → c_run col rt val ap s (t_val val ap t :: V) W = c_run col rt val ap s' (t_val val ap t' :: V) W
  | 0, _, _, _, _, _, _, _, _, _, _, _, _, e => by simp [g_loop] at e
  | f + 1, t, p, [], q, t', p', s', V, W, _, _, _, e => by
    simp only [g_loop] at e
    cases e; rfl
  | f + 1, t, p, o :: r, q, t', p', s', V, W, hN, hz, hbar, e => by
    simp only [g_loop] at e
    split at e
    · next hc =>
      obtain ⟨ho, hcx⟩ := hc
      simp only [z_brk, ho, if_pos] at hz
      have hr : r.length < N := by simpa using hN
      obtain ⟨t2, w2, s2, v0, l2, q2, e3, es, hz2, -, -, hst⟩ := hg r (if rt (col (z_sg o)) = true then col (z_sg o) else col (z_sg o) + 1) dep (p + 1) (q + 1) hr hz
      have h1 := z_op_ne ho
      have hbar2 : c_bar col rt (if rt (col (z_sg o)) = true then col (z_sg o) else col (z_sg o) + 1) (o :: W) := by
        intro o' s W' ho' hc' e'
        cases e'
        simp only [c_ahead, if_neg h1.1, decide_eq_false h1.2.2.1, Bool.false_or]
        split at hc'
        · next hr => 
          rw [decide_eq_false (by omega), Bool.false_or]
          rcases Nat.lt_or_ge (col (z_sg o)) (col (z_sg o')) with c1 | c1
          · rw [decide_eq_false (by omega)]; rfl
          · have : col (z_sg o') = col (z_sg o) := by omega
            rw [this, hr]; simp
        · rw [decide_eq_false (by omega), decide_eq_false (by omega)]; rfl
      have h2 := hs r _ dep (p + 1) (q + 1) t2 _ s2 (t_val val ap t :: V) (o :: W) hr hz e3 hbar2
      rw [e3, Option.bind_some] at e
      have h3 : c_run col rt val ap (o :: r) (t_val val ap t :: V) W = c_run col rt val ap r (t_val val ap t :: V) (o :: W) := by
        cases W with
        | nil => simp [c_run, c_rd, c_op, h1, ho]
        | cons s W' => simp [c_run, c_rd, c_op, h1, ho, hbar o s W' ho hcx rfl]
      have h4 : c_run col rt val ap s2 (t_val val ap t2 :: t_val val ap t :: V) (o :: W) = c_run col rt val ap s2 (t_val val ap (tA p o t t2) :: V) W := by
        refine c_run_pop col rt val ap h1.1 (by simp [c_ap, h1.2.2.1, t_val_A]) ?_
        intro o' r' e'
        rcases c_fol_of col hz2 hst o' r' e' with rfl | ⟨ho', hlt⟩
        · exact Or.inl rfl
        · refine Or.inr ⟨ho', ?_⟩
          simp only [c_ahead, if_neg h1.1, decide_eq_false h1.2.2.1, Bool.false_or]
          split at hlt
          · rw [decide_eq_true hlt]; rfl
          · next hr =>
            rcases Nat.lt_or_ge (col (z_sg o')) (col (z_sg o)) with c1 | c1
            · rw [decide_eq_true c1]; rfl
            · have : col (z_sg o') = col (z_sg o) := by omega
              have hr2 : rt (col (z_sg o)) = false := by simpa using hr
              rw [this, hr2]; simp
      rw [h3, h2, h4]
      exact c_loop_ok self N c dep hg hs f _ _ s2 q2 t' p' s' V W (by rw [es] at hN; simp at hN; omega) hz2 hbar e
    · cases e; rfl
theorem c_part_ok : ∀ (d : Nat) (s : List Nat) (c dep p q : Nat) (t : TT) (p' : Nat) (s' V W : List Nat), s.length < d → d ≤ 4000 → z_brk s dep true q = none → g_part col rt d c p s = some (t, p', s') → c_bar col rt c W → c_run col rt val ap s V W = c_run col rt val ap s' (t_val val ap t :: V) W
  | 0, _, _, _, _, _, _, _, _, _, _, h, _, _, _, _ => by omega
  | d + 1, s, c, dep, p, q, t, p', s', V, W, h, hd, hb, e, hbar => by
    have hg : ∀ (s : List Nat) (c dep p q : Nat), s.length < d → z_brk s dep true q = none → Gpost col rt c dep p s (g_part col rt d c p s) := fun s c dep p q h1 h2 => g_part_ok col rt d s c dep p q h1 (by omega) h2
    have hs : ∀ (s : List Nat) (c dep p q : Nat) (t : TT) (p' : Nat) (s' V W : List Nat), s.length < d → z_brk s dep true q = none → g_part col rt d c p s = some (t, p', s') → c_bar col rt c W → c_run col rt val ap s V W = c_run col rt val ap s' (t_val val ap t :: V) W := fun s c dep p q t p' s' V W h1 h2 h3 h4 => c_part_ok d s c dep p q t p' s' V W h1 (by omega) h2 h3 h4
    obtain ⟨t1, w1, s1, u0, l1, q1, e1, es, hz, -, -⟩ := g_core_ok col rt (g_part col rt d) d hg s dep p q h hb
    simp only [g_part, e1, Option.bind_some] at e
    rw [c_core_ok col rt val ap (g_part col rt d) d hg hs s dep p q t1 _ s1 V W h hb e1]
    exact c_loop_ok col rt val ap (g_part col rt d) d c dep hg hs 4096 t1 _ s1 q1 t p' s' V W (by rw [es] at h; simp at h; omega) hz hbar e
/-- the row of values computes what the tree says -/
theorem c_whole {w : List Nat} {d p q : Nat} {t : TT} {p' : Nat} (hd : w.length < d) (hd2 : d ≤ 4000) (hb : z_brk w 0 true q = none) (e : g_part col rt d 0 p w = some (t, p', [])) : c_run col rt val ap w [] [] = some ([t_val val ap t], []) := by
  rw [c_part_ok col rt val ap d w 0 0 p q t p' [] [] [] hd hd2 hb e (fun o s W' _ _ e => by cases e)]
  rfl
end COMP
