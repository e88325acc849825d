set_option maxRecDepth 100000
set_option linter.unusedVariables false
/-! THE REFERENCE: units and splits -/
/-- the row W holds the text w from lo on -/
def Sl (W : Nat → Int32) : Nat → List Nat → Prop
  | _, [] => True
  | lo, c :: r => W lo = nI c ∧ c < 65536 ∧ Sl W (lo + 1) r
theorem Sl_app {W : Nat → Int32} : ∀ (u v : List Nat) (lo : Nat), Sl W lo (u ++ v) ↔ Sl W lo u ∧ Sl W (lo + u.length) v
  | [], v, lo => by simp [Sl]
  | c :: u, v, lo => by
    have e : lo + (c :: u).length = lo + 1 + u.length := by simp; omega
    rw [e]
    simp only [List.cons_append, Sl, Sl_app u v (lo + 1)]
    constructor
    · rintro ⟨a, b, c, d⟩; exact ⟨⟨a, b, c⟩, d⟩
    · rintro ⟨⟨a, b, c⟩, d⟩; exact ⟨a, b, c, d⟩
theorem Sl.get {W : Nat → Int32} : ∀ {w : List Nat} {lo i c : Nat}, Sl W lo w → w[i]? = some c → W (lo + i) = nI c ∧ c < 65536
  | [], _, _, _, _, h => by simp at h
  | x :: w, lo, 0, c, h, e => by
    simp only [List.getElem?_cons_zero, Option.some.injEq] at e
    subst e
    exact ⟨h.1, h.2.1⟩
  | x :: w, lo, i + 1, c, h, e => by
    have := Sl.get (w := w) (lo := lo + 1) (i := i) h.2.2 (by simpa using e)
    rw [show lo + (i + 1) = lo + 1 + i by omega]
    exact this
theorem Sl.take {W : Nat → Int32} {w : List Nat} {lo k : Nat} (h : Sl W lo w) : Sl W lo (w.take k) := by
  rw [← List.take_append_drop k w, Sl_app] at h
  exact h.1
theorem Sl.drop {W : Nat → Int32} {w : List Nat} {lo k : Nat} (h : Sl W lo w) (hk : k ≤ w.length) : Sl W (lo + k) (w.drop k) := by
  rw [← List.take_append_drop k w, Sl_app] at h
  rw [List.length_take, Nat.min_eq_left hk] at h
  exact h.2
theorem nI_c {a b : Nat} (ha : a < 65536) (hb : b < 65536) : nI a = nI b ↔ a = b := nI_eq (by omega) (by omega)
theorem z_ix {k N : Nat} (h : k < N) (hN : N < 2 ^ 31 := by omega) : ¬ (nI k < 0 ∨ N ≤ (nI k).toNatClampNeg) := nI_in h hN
theorem z_ixt {k N : Nat} (h : k < N) (hN : N < 2 ^ 31 := by omega) : ¬ (nI k < 0 ∨ N ≤ k) := by
  rintro (x | x)
  · exact nI_pos (by omega) x
  · omega
theorem z_tn {k : Nat} (h : k < 2 ^ 31 := by omega) : (nI k).toNatClampNeg = k := nI_clamp h
theorem nI_m1 (d : Nat) (h : 1 ≤ d) : nI d + (-1) = nI (d - 1) := by
  obtain ⟨e, rfl⟩ : ∃ e, d = e + 1 := ⟨d - 1, by omega⟩
  rw [pk_m1]; rfl
theorem x4_closing_l {A : Nat → Nat → Int32} : ∀ (s : List Nat) (f d lo m : Nat), Sl (A 17) lo s → 1 ≤ d → z_cl s d = some m → lo + m ≤ 24 → m < f → s.length + d < 60000 → f_X4_closing_l4_1 A f (nI d) (nI lo) = some (nI (lo + m - 1))
  | [], f, d, lo, m, _, _, hz, _, _, _ => by simp [z_cl] at hz
  | c :: r, 0, d, lo, m, _, _, _, _, h, _ => by omega
  | c :: r, f + 1, d, lo, m, hs, hd, hz, h24, hf, hl => by
    obtain ⟨h1, h2, h3⟩ := hs
    simp only [List.length_cons] at hl
    have hm : 1 ≤ m := by
      simp only [z_cl] at hz
      split at hz
      · obtain ⟨x, -, rfl⟩ := Option.map_eq_some_iff.mp hz; omega
      · split at hz
        · split at hz
          · cases hz; omega
          · obtain ⟨x, -, rfl⟩ := Option.map_eq_some_iff.mp hz; omega
        · obtain ⟨x, -, rfl⟩ := Option.map_eq_some_iff.mp hz; omega
    rw [f_X4_closing_l4_1, if_neg (z_ix (by omega)), z_tn, h1]
    simp only [z_cl] at hz
    by_cases c1 : c = 40
    · subst c1
      rw [if_pos (show nI 40 = 40 from rfl)]
      rw [if_pos rfl] at hz
      obtain ⟨x, hx, rfl⟩ := Option.map_eq_some_iff.mp hz
      rw [f_X4_closing_j36_3, nI_1, if_neg (nI_ne0 (by omega) (by omega)), nI_1, x4_closing_l r f (d + 1) (lo + 1) x h3 (by omega) hx (by omega) (by omega) (by omega)]
      congr 2; omega
    · rw [if_neg (show ¬ nI c = 40 from fun h => c1 ((nI_c h2 (by omega)).mp h)), if_neg (z_ixt (by omega))]
      rw [if_neg c1] at hz
      by_cases c2 : c = 41
      · subst c2
        rw [if_pos (show nI 41 = 41 from rfl), f_X4_closing_j36_3, nI_m1 d hd]
        rw [if_pos rfl] at hz
        by_cases c3 : d = 1
        · subst c3
          rw [if_pos rfl] at hz
          cases hz
          rw [if_pos (show nI (1 - 1) = 0 from rfl)]
          congr 2
        · rw [if_neg c3] at hz
          obtain ⟨x, hx, rfl⟩ := Option.map_eq_some_iff.mp hz
          rw [if_neg (nI_ne0 (by omega) (by omega)), nI_1, x4_closing_l r f (d - 1) (lo + 1) x h3 (by omega) hx (by omega) (by omega) (by omega)]
          congr 2; omega
      · rw [if_neg (show ¬ nI c = 41 from fun h => c2 ((nI_c h2 (by omega)).mp h)), f_X4_closing_j36_3]
        rw [if_neg c2] at hz
        obtain ⟨x, hx, rfl⟩ := Option.map_eq_some_iff.mp hz
        rw [show nI d + 0 = nI d from nI_add d 0, if_neg (nI_ne0 (by omega) (by omega)), nI_1, x4_closing_l r f d (lo + 1) x h3 hd hx (by omega) (by omega) (by omega)]
        congr 2; omega
theorem x4_closing {S : Nat → Int32} {A : Nat → Nat → Int32} {r : List Nat} {lo m : Nat} (hs : Sl (A 17) lo (40 :: r)) (hz : z_cl r 1 = some m) (h24 : lo + 1 + m ≤ 24) (hl : r.length < 50000) : f_X4_closing S A (nI lo) = some (nI (lo + m)) := by
  obtain ⟨h1, h2, h3⟩ := hs
  rw [f_X4_closing, f_X4_closing_l4_1, if_neg (z_ix (by omega)), z_tn, h1, if_pos (show nI 40 = 40 from rfl), f_X4_closing_j36_3, if_neg (by decide), nI_1]
  have := x4_closing_l r 4095 1 (lo + 1) m h3 (by omega) hz (by omega) (by omega) (by omega)
  rw [show (0 : Int32) + 1 = nI 1 from rfl, this]
  congr 2; omega
theorem x4_behind_l {S : Nat → Int32} {A : Nat → Nat → Int32} : ∀ (s : List Nat) (f lo m : Nat), Sl (A 17) lo s → z_un s = some m → lo + m ≤ 24 → m < f → s.length < 50000 → f_X4_behind_l2_1 S A f (nI lo) = some (nI (lo + m))
  | [], f, lo, m, _, hz, _, _, _ => by simp [z_un] at hz
  | c :: r, 0, lo, m, _, _, _, h, _ => by omega
  | c :: r, f + 1, lo, m, hs, hz, h24, hf, hl => by
    have hs0 := hs
    obtain ⟨h1, h2, h3⟩ := hs
    simp only [List.length_cons] at hl
    have hm : 1 ≤ m := by
      simp only [z_un] at hz
      split at hz
      · obtain ⟨x, -, rfl⟩ := Option.map_eq_some_iff.mp hz; omega
      · split at hz
        · obtain ⟨x, -, rfl⟩ := Option.map_eq_some_iff.mp hz; omega
        · cases hz; omega
    rw [f_X4_behind_l2_1, if_neg (z_ix (by omega)), z_tn, h1]
    simp only [z_un] at hz
    by_cases c1 : c = 126
    · subst c1
      rw [if_pos (show nI 126 = 126 from rfl), nI_1]
      rw [if_pos rfl] at hz
      obtain ⟨x, hx, rfl⟩ := Option.map_eq_some_iff.mp hz
      rw [x4_behind_l r f (lo + 1) x h3 hx (by omega) (by omega) (by omega)]
      congr 2; omega
    · rw [if_neg (show ¬ nI c = 126 from fun h => c1 ((nI_c h2 (by omega)).mp h)), if_neg (z_ixt (by omega))]
      rw [if_neg c1] at hz
      by_cases c2 : c = 40
      · subst c2
        rw [if_pos rfl] at hz
        obtain ⟨x, hx, rfl⟩ := Option.map_eq_some_iff.mp hz
        rw [if_pos (show nI 40 = 40 from rfl), x4_closing hs0 hx (by omega) (by omega), Option.bind_some, nI_1]
        congr 2
      · rw [if_neg (show ¬ nI c = 40 from fun h => c2 ((nI_c h2 (by omega)).mp h)), nI_1]
        rw [if_neg c2] at hz
        cases hz; rfl
theorem x4_behind {S : Nat → Int32} {A : Nat → Nat → Int32} {u : List Nat} {lo : Nat} (hs : Sl (A 17) lo u) (hu : Un u) (h24 : lo + u.length ≤ 24) : f_X4_behind S A (nI lo) = some (nI (lo + u.length)) :=
  x4_behind_l u 4096 lo u.length hs (by have := hu []; rwa [List.append_nil] at this) h24 (by omega) (by omega)
/-! signs and colours -/
theorem x4_signOf {c : Nat} (hc : c < 65536) : f_X4_signOf (nI c) = if z_sg c < 7 then nI (z_sg c) else -1 := by
  have k : ∀ b : Nat, b < 65536 → (nI c = nI b ↔ c = b) := fun b hb => nI_c hc hb
  unfold f_X4_signOf z_sg
  rw [show (37 : Int32) = nI 37 from rfl, show (38 : Int32) = nI 38 from rfl, show (42 : Int32) = nI 42 from rfl, show (43 : Int32) = nI 43 from rfl, show (45 : Int32) = nI 45 from rfl, show (94 : Int32) = nI 94 from rfl, show (126 : Int32) = nI 126 from rfl]
  simp only [k 37 (by omega), k 38 (by omega), k 42 (by omega), k 43 (by omega), k 45 (by omega), k 94 (by omega), k 126 (by omega)]
  by_cases c1 : c = 37
  · subst c1; decide
  by_cases c2 : c = 38
  · subst c2; decide
  by_cases c3 : c = 42
  · subst c3; decide
  by_cases c4 : c = 43
  · subst c4; decide
  by_cases c5 : c = 45
  · subst c5; decide
  by_cases c6 : c = 94
  · subst c6; decide
  by_cases c7 : c = 126
  · subst c7; decide
  simp [c1, c2, c3, c4, c5, c6, c7]
/-- the row g's colours and storms -/
def Cl (g : Nat → Int32) (col : Nat → Nat) (rt : Nat → Bool) : Prop := (∀ i, i < 7 → g (25 + i) = nI (col i) ∧ col i < 7) ∧ ∀ x, x < 7 → ((g 38 >>> (nI x &&& 31)) &&& 1 = 1 ↔ rt x = true)
section SPLIT
variable {S : Nat → Int32} {A : Nat → Nat → Int32} {col : Nat → Nat} {rt : Nat → Bool}
theorem x4_shade {k o : Nat} (hC : Cl (A 0) col rt) (hw : A 17 k = nI o) (ho : z_op o = true) (ho2 : o < 65536) (hk : k < 24) : f_X4_shade S A (nI k) = some (nI (col (z_sg o))) := by
  have hs : z_sg o < 6 := by simpa [z_op] using ho
  have e1 : (25 : Int32) + f_X4_signOf (nI o) = nI (25 + z_sg o) := by
    rw [x4_signOf ho2, if_pos (show z_sg o < 7 by omega), ← nI_add]; rfl
  rw [f_X4_shade, if_neg (z_ix hk), z_tn (by omega), hw, e1, if_neg (z_ix (by omega)), z_tn (by omega), (hC.1 _ (by omega)).1]
theorem x4_isRight {x : Nat} (hC : Cl (A 0) col rt) (hx : x < 7) : f_X4_isRight S A (nI x) = some (if rt x = true then 1 else 0) := by
  have := hC.2 x hx
  unfold f_X4_isRight
  by_cases c : rt x = true
  · rw [if_pos c, if_pos (this.mpr c)]
  · rw [if_neg c, if_neg (fun h => c (this.mp h))]
def oI : Option (Nat × Nat) → Int32
  | none => -1
  | some b => nI b.1
/-- the best operator so far is as said -/
def Bst (S : Nat → Int32) (A : Nat → Nat → Int32) : Option (Nat × Nat) → Prop
  | none => True
  | some b => b.1 < 24 ∧ b.2 < 7 ∧ f_X4_shade S A (nI b.1) = some (nI b.2)
theorem z_neg1 : ¬ ((0 : Int32) ≤ -1) ∧ (-1 : Int32) < 0 := by decide
theorem ft_len : ∀ l : List (Nat × List Nat), l.length ≤ (ft l).length
  | [] => Nat.le_refl _
  | (o, u) :: l => by
    have := ft_len l
    simp only [ft, List.length_cons, List.length_append]; omega
theorem x4_split_in (hC : Cl (A 0) col rt) : ∀ (l : List (Nat × List Nat)) (f g k hi : Nat) (a : Bool) (b : Option (Nat × Nat)), OKl l → Sl (A 17) k (ft l) → hi = k + (ft l).length → hi ≤ 24 → l.length < f → f ≤ 4096 → l.length < g → g ≤ 4096 → Bst S A b → f_X4_split_l32_8 (nI hi) S A (oI b) (f_X4_split_l5_1 (nI hi) S A g) (if a then 1 else 0) f (nI k) = some (oI (pk rt b (cn col a k l)))
  | l, 0, _, _, _, _, _, _, _, _, _, h, _, _, _, _ => by omega
  | [], f + 1, g, k, hi, a, b, _, _, hhi, h24, _, _, _, _, hB => by
    have e : hi = k := by simpa [ft] using hhi
    subst e
    rw [f_X4_split_l32_8]
    simp only [cn, pk, Int32.lt_irrefl, if_neg, not_false_eq_true, Int32.le_refl, if_pos]
    cases a <;> simp [cn, pk] <;> cases b <;> rfl
  | (o, u) :: l, f + 1, g, k, hi, a, b, hO, hS, hhi, h24, hf, hf2, hg, hg2, hB => by
    have h1 := hO (o, u) List.mem_cons_self
    obtain ⟨ho, hUn, hBal, hne⟩ := h1
    have hS0 := hS
    simp only [ft] at hS hhi
    obtain ⟨hk, ho2, hS⟩ := hS
    rw [Sl_app] at hS
    simp only [List.length_cons, List.length_append] at hhi hf hg
    have hsh := x4_shade (S := S) hC hk ho ho2 (by omega)
    have hs6 : z_sg o < 6 := by simpa [z_op] using ho
    have hx7 : col (z_sg o) < 7 := (hC.1 _ (by omega)).2
    have hlt : nI k < nI hi := nI_lt (by omega) (by omega)
    have hnle : ¬ nI hi ≤ nI k := nI_ge (by omega) (by omega)
    have hO' : OKl l := fun x hx => hO x (List.mem_cons_of_mem _ hx)
    have hbeh : f_X4_behind S A (nI (k + 1)) = some (nI (k + 1 + u.length)) := x4_behind hS.1 hUn (by omega)
    -- the selected operator
    have hsel : ∀ b' : Option (Nat × Nat), Bst S A b' → f_X4_split_l5_1 (nI hi) S A g (oI b') (nI k + 1) = some (oI (pk rt b' (cn col (isC u) (k + 1 + u.length) l))) := by
      intro b' hb'
      cases g with
      | zero => omega
      | succ g =>
        cases u with
        | nil => exact absurd rfl hne
        | cons c r =>
          have hc := hS.1
          obtain ⟨hc1, hc2, -⟩ := hc
          have hlen : (c :: r).length = r.length + 1 := rfl
          have hrec := fun a => x4_split_in hC l 4096 g (k + 1 + (c :: r).length) hi a b' hO' hS.2 (by omega) h24 (by omega) (Nat.le_refl _) (by omega) (by omega) hb'
          rw [nI_1, f_X4_split_l5_1, if_neg (z_ix (by omega)), z_tn, hc1]
          by_cases c1 : c = 126
          · subst c1
            rw [if_pos (show nI 126 = 126 from rfl), f_X4_split_j22_3, hbeh, Option.bind_some]
            exact hrec true
          · rw [if_neg (show ¬ nI c = 126 from fun h => c1 ((nI_c hc2 (by omega)).mp h)), f_X4_split_j22_3, hbeh, Option.bind_some]
            have : isC (c :: r) = false := by simp [isC, c1]
            rw [this]
            exact hrec false
    have hB' : Bst S A (some (k, col (z_sg o))) := ⟨by omega, hx7, hsh⟩
    have hSEL : (if oI b < 0 then f_X4_split_l5_1 (nI hi) S A g (nI k) (nI k + 1) else ((f_X4_shade S A (nI k)).bind fun v_14 => ((f_X4_shade S A (oI b)).bind fun v_18 => (if v_14 < v_18 then (f_X4_split_l5_1 (nI hi) S A g (nI k) (nI k + 1)) else ((f_X4_shade S A (nI k)).bind fun v_23 => ((f_X4_shade S A (oI b)).bind fun v_27 => (if v_23 = v_27 then ((f_X4_shade S A (nI k)).bind fun v_32 => ((f_X4_isRight S A v_32).bind fun v_36 => (if v_36 = 0 then (f_X4_split_l5_1 (nI hi) S A g (nI k) (nI k + 1)) else (f_X4_split_l5_1 (nI hi) S A g (oI b) (nI k + 1))))) else (f_X4_split_l5_1 (nI hi) S A g (oI b) (nI k + 1))))))))) = some (oI (pk rt b ((k, col (z_sg o)) :: cn col (isC u) (k + 1 + u.length) l))) := by
      cases b with
      | none =>
        rw [if_pos (show oI none < 0 from z_neg1.2)]
        exact hsel (some (k, col (z_sg o))) hB'
      | some b =>
        obtain ⟨hb1, hb2, hb3⟩ := hB
        have hB0 : Bst S A (some b) := ⟨hb1, hb2, hb3⟩
        have hb3' : f_X4_shade S A (oI (some b)) = some (nI b.2) := hb3
        rw [if_neg (show ¬ oI (some b) < 0 from nI_pos (by omega))]
        simp only [hsh, hb3', Option.bind_some, x4_isRight hC hx7]
        simp only [pk]
        by_cases c1 : col (z_sg o) < b.2
        · rw [if_pos (nI_lt c1 (by omega)), if_pos (Or.inl c1)]
          exact hsel (some (k, col (z_sg o))) hB'
        · rw [if_neg (nI_nlt (by omega) (by omega))]
          by_cases c2 : col (z_sg o) = b.2
          · rw [if_pos (by rw [c2])]
            cases c3 : rt (col (z_sg o))
            · rw [if_pos (by simp), if_pos (Or.inr ⟨c2, rfl⟩)]
              exact hsel (some (k, col (z_sg o))) hB'
            · rw [if_neg (by simp), if_neg (by rintro (h | ⟨-, h⟩); exact c1 h; cases h)]
              exact hsel (some b) hB0
          · rw [if_neg (fun h => c2 ((nI_c (by omega) (by omega)).mp h)), if_neg (by rintro (h | ⟨h, -⟩); exact c1 h; exact c2 h)]
            exact hsel (some b) hB0
    simp only [hsh, Option.bind_some] at hSEL
    rw [f_X4_split_l32_8]
    cases a with
    | false =>
      simp only [Bool.false_eq_true, if_false, if_true, hlt, if_pos, cn, Bool.false_and, hsh, Option.bind_some]
      exact hSEL
    | true =>
      have h10 : ¬ ((1 : Int32) = 0) := by decide
      simp only [if_true, h10, if_false, hnle, hlt, hsh, Option.bind_some, cn, Bool.true_and, decide_eq_true_eq]
      have hcl := (hC.1 6 (by omega))
      rw [show (A 0 31) = nI (col 6) from hcl.1]
      by_cases c1 : col 6 < col (z_sg o)
      · rw [if_neg (nI_ge c1 (by omega)), if_pos c1, nI_1, hbeh, Option.bind_some]
        exact x4_split_in hC l f g (k + 1 + u.length) hi true b hO' hS.2 (by omega) h24 (by omega) (by omega) (by omega) hg2 hB
      · rw [if_pos (nI_le (by omega) (by omega)), if_neg c1]
        exact hSEL
theorem x4_split (hC : Cl (A 0) col rt) {w u0 : List Nat} {l : List (Nat × List Nat)} {lo hi : Nat} (hw : w = u0 ++ ft l) (hU : Un u0) (hne : u0 ≠ []) (hO : OKl l) (hs : Sl (A 17) lo w) (hhi : hi = lo + w.length) (h24 : hi ≤ 24) : f_X4_split S A (nI lo) (nI hi) = some (oI ((pk rt none (cn col (isC u0) u0.length l)).map fun y => (y.1 + lo, y.2))) := by
  subst hw
  rw [Sl_app] at hs
  rw [List.length_append] at hhi
  have hll := ft_len l
  have hbeh : f_X4_behind S A (nI lo) = some (nI (lo + u0.length)) := x4_behind hs.1 hU (by omega)
  have hpk : ∀ (X : List (Nat × Nat)) (b : Option (Nat × Nat)), pk rt (b.map fun y => (y.1 + lo, y.2)) (X.map fun y => (y.1 + lo, y.2)) = (pk rt b X).map fun y => (y.1 + lo, y.2) := by
    intro X
    induction X with
    | nil => intro b; cases b <;> rfl
    | cons x X ih =>
      intro b
      cases b with
      | none => simpa [pk] using ih (some x)
      | some b =>
        simp only [Option.map_some, List.map_cons, pk]
        split
        · exact ih (some x)
        · exact ih (some b)
  have hpk0 : ∀ X : List (Nat × Nat), pk rt none (X.map fun y => (y.1 + lo, y.2)) = (pk rt none X).map fun y => (y.1 + lo, y.2) := fun X => hpk X none
  have hrec := fun a => x4_split_in (S := S) hC l 4096 4095 (lo + u0.length) hi a none hO hs.2 (by omega) h24 (by omega) (Nat.le_refl _) (by omega) (by omega) trivial
  rw [show lo + u0.length = u0.length + lo by omega] at hrec
  simp only [cn_shift, hpk0] at hrec
  cases u0 with
  | nil => exact absurd rfl hne
  | cons c r =>
    obtain ⟨⟨hc1, hc2, -⟩, -⟩ := hs
    rw [f_X4_split, f_X4_split_l5_1, if_neg (z_ix (by simp at hhi; omega)), z_tn (by simp at hhi; omega), hc1]
    have e5 : lo + (c :: r).length = (c :: r).length + lo := by omega
    by_cases c1 : c = 126
    · subst c1
      rw [if_pos (show nI 126 = 126 from rfl), f_X4_split_j22_3, hbeh, Option.bind_some, e5]
      have := hrec true
      exact this
    · rw [if_neg (show ¬ nI c = 126 from fun h => c1 ((nI_c hc2 (by omega)).mp h)), f_X4_split_j22_3, hbeh, Option.bind_some, e5]
      have e6 : isC (c :: r) = false := by simp [isC, c1]
      rw [e6]
      have := hrec false
      exact this
end SPLIT
