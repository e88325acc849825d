set_option maxRecDepth 100000
set_option linter.unusedVariables false
/-! THE GRAMMAR: words letter by letter, commands, texts -/
/-- what has been read of a word -/
def z_pre : Nat → List Nat
  | 0 => []
  | 1 => [112]
  | 2 => [112, 117]
  | 3 => [112, 117, 116]
  | 4 => [101]
  | 5 => [101, 114]
  | 6 => [101, 114, 97]
  | 7 => [101, 114, 97, 115]
  | 8 => [101, 114, 97, 115, 101]
  | 9 => [99]
  | 10 => [99, 108]
  | 11 => [99, 108, 101]
  | 12 => [99, 108, 101, 97]
  | 13 => [99, 108, 101, 97, 114]
  | 14 => [99, 111]
  | 15 => [99, 111, 108]
  | 16 => [99, 111, 108, 111]
  | 17 => [99, 111, 108, 111, 117]
  | 18 => [99, 111, 108, 111, 117, 114]
  | 19 => [109]
  | 20 => [109, 101]
  | 21 => [109, 101, 97]
  | 22 => [109, 101, 97, 110]
  | 23 => [115]
  | 24 => [115, 116]
  | 25 => [115, 116, 111]
  | 26 => [115, 116, 111, 114]
  | 27 => [115, 116, 111, 114, 109]
  | 28 => [107]
  | 29 => [107, 101]
  | 30 => [107, 101, 101]
  | _ => [107, 101, 101, 112]
/-- a letter more -/
def z_nx (s c : Nat) : Option Nat :=
  if s = 0 then (if c = 112 then some 1 else if c = 101 then some 4 else if c = 99 then some 9 else if c = 109 then some 19 else if c = 115 then some 23 else if c = 107 then some 28 else none)
  else if s = 9 then (if c = 108 then some 10 else if c = 111 then some 14 else none)
  else if s = 3 ∨ s = 8 ∨ s = 13 ∨ s = 18 ∨ s = 22 ∨ s = 27 ∨ 31 ≤ s then none
  else if (z_pre (s + 1)).getLastD 0 = c then some (s + 1) else none
/-- the word that is whole -/
def z_fin (s : Nat) : Option Nat := if s = 3 then some 0 else if s = 8 then some 1 else if s = 13 then some 2 else if s = 18 then some 3 else if s = 22 then some 4 else if s = 27 then some 5 else if s = 31 then some 6 else none
abbrev z_words : List Nat := [32, 112, 117, 116, 32, 101, 114, 97, 115, 101, 32, 99, 108, 101, 97, 114, 32, 99, 111, 108, 111, 117, 114, 32, 109, 101, 97, 110, 32, 115, 116, 111, 114, 109, 32, 107, 101, 101, 112, 32]
/-- whether a text lies among the words -/
abbrev z_inw (w : List Nat) : Bool := (z_sf z_words w (z_words.length - w.length + 1) 0).isSome
def z_wchk (s : Nat) : Bool := (z_inw (32 :: z_pre s ++ [32]) == (z_fin s).isSome) && (match z_fin s with | some k => z_w k == z_pre s && decide (k ≤ 6) | none => true) && (List.range 26).all fun i => (z_inw (32 :: z_pre s ++ [97 + i]) == (z_nx s (97 + i)).isSome) && (match z_nx s (97 + i) with | some s' => z_pre s' == z_pre s ++ [97 + i] && decide (s' < 32) | none => true) || (z_fin s).isSome
theorem z_wchk_ok : (List.range 32).all z_wchk = true := by decide +kernel
theorem z_wchk_s {s : Nat} (hs : s < 32) : z_inw (32 :: z_pre s ++ [32]) = (z_fin s).isSome ∧ (∀ k, z_fin s = some k → z_w k = z_pre s ∧ k ≤ 6) ∧ (z_fin s = none → ∀ c, 97 ≤ c → c ≤ 122 → z_inw (32 :: z_pre s ++ [c]) = (z_nx s c).isSome ∧ ∀ s', z_nx s c = some s' → z_pre s' = z_pre s ++ [c] ∧ s' < 32) := by
  have h := List.all_eq_true.mp z_wchk_ok s (List.mem_range.mpr hs)
  simp only [z_wchk, Bool.and_eq_true, beq_iff_eq, List.all_eq_true, Bool.or_eq_true] at h
  obtain ⟨⟨h1, h2⟩, h3⟩ := h
  refine ⟨h1, fun k hk => ?_, fun hn c hc1 hc2 => ?_⟩
  · rw [hk] at h2
    simp only [Bool.and_eq_true, beq_iff_eq, decide_eq_true_eq] at h2
    exact h2
  · have h4 := h3 (c - 97) (List.mem_range.mpr (by omega))
    rw [show 97 + (c - 97) = c by omega, hn] at h4
    simp only [Option.isSome_none, Bool.false_eq_true, or_false] at h4
    refine ⟨h4.1, fun s' hs' => ?_⟩
    have h5 := h4.2
    rw [hs'] at h5
    simp only [Bool.and_eq_true, beq_iff_eq, decide_eq_true_eq] at h5
    exact h5
theorem z_nx_low {s c : Nat} (hs : s < 32) (h : z_nx s c ≠ none) : 97 ≤ c ∧ c ≤ 122 := by
  unfold z_nx at h
  repeat' split at h
  all_goals first | (exfalso; exact h rfl) | omega | skip
  next h1 h2 h3 h4 =>
  have h5 : ∀ s, s < 32 → (z_pre s).getLastD 0 = 0 ∨ 97 ≤ (z_pre s).getLastD 0 ∧ (z_pre s).getLastD 0 ≤ 122 := by decide +kernel
  have h7 : ∀ s, s < 31 → (z_pre (s + 1)).getLastD 0 ≠ 0 := by decide +kernel
  have h6 := h5 (s + 1) (by omega)
  have h8 := h7 s (by omega)
  rw [h4] at h6 h8
  omega
/-- reading a word: its number, what is left, the place; or the place of the fault -/
def z_rdw : List Nat → Nat → Nat → (Nat × List Nat × Nat) ⊕ Nat
  | [], s, p => match z_fin s with | some k => .inl (k, [], p) | none => .inr p
  | c :: r, s, p => match z_fin s with
    | some k => .inl (k, c :: r, p)
    | none => match z_nx s c with
      | some s' => z_rdw r s' (p + 1)
      | none => .inr p
/-- reading a letter of a kind -/
def z_tk (P : Nat → Bool) : List Nat → Nat → (Nat × List Nat × Nat) ⊕ Nat
  | [], p => .inr p
  | c :: r, p => if P c then .inl (c, r, p + 1) else .inr p
def z_dg (c : Nat) : Bool := decide (48 ≤ c ∧ c ≤ 57)
def z_sgb (c : Nat) : Bool := decide (z_sg c < 7)
def z_mng (c : Nat) : Bool := (z_mi c).isSome
def z_skc (c : Nat) : Bool := decide (65 ≤ c ∧ c ≤ 69)
def z_spn (P : Nat → Bool) : List Nat → List Nat × List Nat
  | [] => ([], [])
  | c :: r => if P c then (c :: (z_spn P r).1, (z_spn P r).2) else ([], c :: r)
/-- a command: its word, its letters, its number -/
abbrev Zc : Type := Nat × List Nat × Nat
def z_arg (k : Nat) (r : List Nat) (p : Nat) : (Zc × List Nat × Nat) ⊕ Nat :=
  if k = 0 then (match z_tk z_ch r p with
    | .inr q => .inr q
    | .inl (c, r, p) => .inl ((0, c :: (z_spn z_ch r).1, 0), (z_spn z_ch r).2, p + (z_spn z_ch r).1.length))
  else if k = 3 then (match z_tk z_sgb r p with
    | .inr q => .inr q
    | .inl (c, r, p) => match z_tk z_dg r p with
      | .inr q => .inr q
      | .inl (d, r, p) => .inl ((3, [c], d - 48), r, p))
  else if k = 4 then (match z_tk z_op r p with
    | .inr q => .inr q
    | .inl (c, r, p) => match z_tk z_mng r p with
      | .inr q => .inr q
      | .inl (d, r, p) => .inl ((4, [c, d], 0), r, p))
  else if k = 5 then (match z_tk z_dg r p with
    | .inr q => .inr q
    | .inl (d, r, p) => .inl ((5, [], d - 48), r, p))
  else (match z_tk z_skc r p with
    | .inr q => .inr q
    | .inl (c, r, p) => .inl ((6, [c], 0), r, p))
def z_cmd (r : List Nat) (p : Nat) : (Zc × List Nat × Nat) ⊕ Nat := match z_rdw r 0 p with
  | .inr q => .inr q
  | .inl (k, r, p) => if k = 1 ∨ k = 2 then .inl ((k, [], 0), r, p) else match z_tk (fun c => decide (c = 32)) r p with
    | .inr q => .inr q
    | .inl (_, r, p) => z_arg k r p
def z_txt : Nat → List Nat → Nat → List Zc ⊕ Nat
  | 0, _, p => .inr p
  | f + 1, r, p => match z_cmd r p with
    | .inr q => .inr q
    | .inl (c, [], _) => .inl [c]
    | .inl (c, d :: r, p) => if d = 59 then (match z_txt f r (p + 1) with
      | .inr q => .inr q
      | .inl l => .inl (c :: l)) else .inr p
/-- a text: commands, or the place of the fault -/
def z_prs (buf : List Nat) : List Zc ⊕ Nat := z_txt 61 buf 0
/-- all commands, one after the other: how many were done, then the sheet, or why not -/
def z_all : List Zc → Nat → Zs → Zs ⊕ (Nat × Nat × Int32 × Int32)
  | [], _, z => .inl z
  | c :: l, i, z => match z_do c.1 c.2.1 (nI c.2.2) z with
    | .inl y => z_all l (i + 1) y.2
    | .inr e => .inr (i, e)
theorem z_rdw_d {buf : List Nat} : ∀ (r : List Nat) (s p k p' : Nat) (r' : List Nat), s < 32 → z_rdw r s p = .inl (k, r', p') → k ≤ 6 ∧ p' + (z_pre s).length = p + (z_w k).length ∧ r'.length + p' = r.length + p ∧ (buf.drop p = r → buf.drop p' = r')
  | [], s, p, k, p', r', hs, h => by
    rw [z_rdw] at h
    cases hf : z_fin s with
    | none => rw [hf] at h; cases h
    | some k2 =>
      rw [hf] at h
      cases h
      obtain ⟨h1, h2⟩ := (z_wchk_s hs).2.1 k hf
      exact ⟨h2, by rw [h1], rfl, id⟩
  | c :: r, s, p, k, p', r', hs, h => by
    rw [z_rdw] at h
    cases hf : z_fin s with
    | some k2 =>
      rw [hf] at h
      cases h
      obtain ⟨h1, h2⟩ := (z_wchk_s hs).2.1 k hf
      exact ⟨h2, by rw [h1], rfl, id⟩
    | none =>
      rw [hf] at h
      cases hn : z_nx s c with
      | none => rw [hn] at h; cases h
      | some s' =>
        rw [hn] at h
        have hc := z_nx_low hs (by rw [hn]; simp)
        obtain ⟨h1, h2⟩ := ((z_wchk_s hs).2.2 hf c hc.1 hc.2).2 s' hn
        obtain ⟨g1, g2, g3, g4⟩ := z_rdw_d r s' (p + 1) k p' r' h2 h
        rw [h1, List.length_append, List.length_singleton] at g2
        refine ⟨g1, by omega, by simp only [List.length_cons]; omega, fun hd => g4 ?_⟩
        have := congrArg List.tail hd
        simpa using this
theorem z_tk_d {P : Nat → Bool} {r r' : List Nat} {p p' c : Nat} (h : z_tk P r p = .inl (c, r', p')) : r = c :: r' ∧ p' = p + 1 ∧ P c = true := by
  cases r with
  | nil => cases h
  | cons d r =>
    rw [z_tk] at h
    split at h
    · next hp => cases h; exact ⟨rfl, rfl, hp⟩
    · cases h
theorem z_spn_d (P : Nat → Bool) : ∀ r : List Nat, (z_spn P r).1 ++ (z_spn P r).2 = r ∧ ∀ c ∈ (z_spn P r).1, P c = true
  | [] => by simp [z_spn]
  | c :: r => by
    have := z_spn_d P r
    rw [z_spn]
    split
    · next h => exact ⟨by rw [List.cons_append, this.1], fun d hd => by
        rcases List.mem_cons.mp hd with rfl | hd
        · exact h
        · exact this.2 d hd⟩
    · simp
theorem z_drop1 {buf r : List Nat} {p c : Nat} (h : buf.drop p = c :: r) : buf.drop (p + 1) = r := (drop_cons h).2.1
theorem z_dropn {buf : List Nat} {p : Nat} : ∀ (u r : List Nat), buf.drop p = u ++ r → buf.drop (p + u.length) = r := fun u r h => by
  rw [← List.drop_drop, h, List.drop_left]
/-- what is known of a command that was read -/
def ZC (c : Zc) : Prop := z_args c.1 c.2.1 ∧ c.2.2 < 10 ∧ ∀ a ∈ c.2.1, a < 128
theorem z_sky_ch {c : Nat} (h : z_skc c = true) : c < 128 := by
  simp only [z_skc, decide_eq_true_eq] at h; omega
theorem z_mng_ch {c : Nat} (h : z_mng c = true) : c < 128 := by
  simp only [z_mng, z_mi] at h
  have hm : c ∈ [115, 100, 112, 103, 108, 106] := by
    rcases Classical.em (c ∈ [115, 100, 112, 103, 108, 106]) with hm | hm
    · exact hm
    · rw [z_idx_none _ 0 hm] at h; cases h
  simp only [List.mem_cons, List.not_mem_nil, or_false] at hm
  omega
theorem z_op_ch {c : Nat} (h : z_op c = true) : c < 128 := by
  rcases z_op_cases h with rfl | rfl | rfl | rfl | rfl | rfl <;> decide
theorem z_sgb_ch {c : Nat} (h : z_sgb c = true) : c < 128 := z_ch_lt (by
  simp only [z_sgb] at h
  simp only [z_ch, h, Bool.or_true, Bool.true_or])
theorem z_arg_d {buf : List Nat} {k p p' : Nat} {r r' : List Nat} {c : Zc} (hk : k ≤ 6) (hl : r.length ≤ 60) (h : z_arg k r p = .inl (c, r', p')) : ZC c ∧ p' + r'.length = p + r.length ∧ 1 + r'.length ≤ r.length ∧ (buf.drop p = r → buf.drop p' = r') := by
  unfold z_arg at h
  split at h
  · cases ht : z_tk z_ch r p with
    | inr q => rw [ht] at h; cases h
    | inl x =>
      rw [ht] at h
      obtain ⟨d, r1, p1⟩ := x
      obtain ⟨rfl, rfl, hd⟩ := z_tk_d ht
      cases h
      have hs := z_spn_d z_ch r1
      have hs1 : (z_spn z_ch r1).1.length + (z_spn z_ch r1).2.length = r1.length := by rw [← List.length_append, hs.1]
      simp only [List.length_cons] at hl ⊢
      refine ⟨⟨⟨by simp, by simp only [List.length_cons]; omega, by simp, by simp⟩, by simp, fun a ha => ?_⟩, by omega, by omega, fun hb => ?_⟩
      · rcases List.mem_cons.mp ha with rfl | ha
        · exact z_ch_lt hd
        · exact z_ch_lt (hs.2 a ha)
      · exact z_dropn _ _ (by rw [hs.1]; exact z_drop1 hb)
  split at h
  · cases ht : z_tk z_sgb r p with
    | inr q => rw [ht] at h; cases h
    | inl x =>
      rw [ht] at h
      obtain ⟨d, r1, p1⟩ := x
      obtain ⟨rfl, rfl, hd⟩ := z_tk_d ht
      dsimp only at h
      cases ht2 : z_tk z_dg r1 (p + 1) with
      | inr q => rw [ht2] at h; cases h
      | inl x =>
        rw [ht2] at h
        obtain ⟨d2, r2, p2⟩ := x
        obtain ⟨rfl, rfl, hd2⟩ := z_tk_d ht2
        cases h
        simp only [z_dg, decide_eq_true_eq] at hd2
        simp only [List.length_cons] at hl ⊢
        refine ⟨⟨⟨by simp, by simp, by simp, by simp⟩, by simp only; omega, fun a ha => ?_⟩, by omega, by omega, fun hb => z_drop1 (z_drop1 hb)⟩
        rw [List.mem_singleton.mp ha]; exact z_sgb_ch hd
  split at h
  · cases ht : z_tk z_op r p with
    | inr q => rw [ht] at h; cases h
    | inl x =>
      rw [ht] at h
      obtain ⟨d, r1, p1⟩ := x
      obtain ⟨rfl, rfl, hd⟩ := z_tk_d ht
      dsimp only at h
      cases ht2 : z_tk z_mng r1 (p + 1) with
      | inr q => rw [ht2] at h; cases h
      | inl x =>
        rw [ht2] at h
        obtain ⟨d2, r2, p2⟩ := x
        obtain ⟨rfl, rfl, hd2⟩ := z_tk_d ht2
        cases h
        simp only [List.length_cons] at hl ⊢
        refine ⟨⟨⟨by simp, by simp, by simp, by simp⟩, by simp, fun a ha => ?_⟩, by omega, by omega, fun hb => z_drop1 (z_drop1 hb)⟩
        simp only [List.mem_cons, List.not_mem_nil, or_false] at ha
        rcases ha with rfl | rfl
        · exact z_op_ch hd
        · exact z_mng_ch hd2
  split at h
  · cases ht : z_tk z_dg r p with
    | inr q => rw [ht] at h; cases h
    | inl x =>
      rw [ht] at h
      obtain ⟨d, r1, p1⟩ := x
      obtain ⟨rfl, rfl, hd⟩ := z_tk_d ht
      cases h
      simp only [z_dg, decide_eq_true_eq] at hd
      simp only [List.length_cons] at hl ⊢
      exact ⟨⟨⟨by simp, by simp, by simp, by simp⟩, by simp only; omega, fun a ha => by simp at ha⟩, by omega, by omega, fun hb => z_drop1 hb⟩
  · cases ht : z_tk z_skc r p with
    | inr q => rw [ht] at h; cases h
    | inl x =>
      rw [ht] at h
      obtain ⟨d, r1, p1⟩ := x
      obtain ⟨rfl, rfl, hd⟩ := z_tk_d ht
      cases h
      simp only [List.length_cons] at hl ⊢
      refine ⟨⟨⟨by simp, by simp, by simp, by simp⟩, by simp, fun a ha => ?_⟩, by omega, by omega, fun hb => z_drop1 hb⟩
      rw [List.mem_singleton.mp ha]; exact z_sky_ch hd
theorem z_cmd_d {buf : List Nat} {p p' : Nat} {r r' : List Nat} {c : Zc} (hl : r.length ≤ 60) (h : z_cmd r p = .inl (c, r', p')) : ZC c ∧ p' + r'.length = p + r.length ∧ 5 + r'.length ≤ r.length ∧ (buf.drop p = r → buf.drop p' = r') := by
  unfold z_cmd at h
  cases hw : z_rdw r 0 p with
  | inr q => rw [hw] at h; cases h
  | inl x =>
    rw [hw] at h
    obtain ⟨k, r1, p1⟩ := x
    obtain ⟨g1, g2, g3, g4⟩ := z_rdw_d (buf := buf) r 0 p k p1 r1 (by omega) hw
    rw [show (z_pre 0).length = 0 from rfl] at g2
    dsimp only at h
    split at h
    · next hk =>
      cases h
      have : (z_w k).length = 5 := by rcases hk with rfl | rfl <;> rfl
      refine ⟨⟨⟨g1, by simp, ?_, ?_⟩, by simp, fun a ha => by simp at ha⟩, by omega, by omega, g4⟩
      · rintro (h9 | h9) <;> simp only at h9 <;> omega
      · intro h9; simp only at h9; omega
    · have h3 : 3 ≤ (z_w k).length := by
        have : ∀ k, k ≤ 6 → 3 ≤ (z_w k).length := by decide
        exact this k g1
      cases ht : z_tk (fun c => decide (c = 32)) r1 p1 with
      | inr q => rw [ht] at h; cases h
      | inl x =>
        rw [ht] at h
        obtain ⟨d, r2, p2⟩ := x
        obtain ⟨rfl, rfl, hd⟩ := z_tk_d ht
        simp only [List.length_cons] at g3
        obtain ⟨f1, f2, f3, f4⟩ := z_arg_d (buf := buf) g1 (by omega) h
        exact ⟨f1, by omega, by omega, fun hb => f4 (z_drop1 (g4 hb))⟩
theorem z_txt_len : ∀ (f : Nat) (r : List Nat) (p : Nat) (l : List Zc), r.length ≤ 60 → z_txt f r p = .inl l → 6 * l.length ≤ r.length + 1 ∧ (∀ c ∈ l, ZC c)
  | 0, r, p, l, hl, h => by cases h
  | f + 1, r, p, l, hl, h => by
    rw [z_txt] at h
    cases hc : z_cmd r p with
    | inr q => rw [hc] at h; cases h
    | inl x =>
      rw [hc] at h
      obtain ⟨c, r1, p1⟩ := x
      obtain ⟨f1, f2, f3, -⟩ := z_cmd_d (buf := r) hl hc
      cases r1 with
      | nil =>
        cases h
        exact ⟨by simp at f3 ⊢; omega, fun d hd => by rw [List.mem_singleton.mp hd]; exact f1⟩
      | cons d r2 =>
        dsimp only at h
        split at h
        · cases ht : z_txt f r2 (p1 + 1) with
          | inr q => rw [ht] at h; cases h
          | inl l2 =>
            rw [ht] at h
            cases h
            simp only [List.length_cons] at f3 ⊢
            obtain ⟨k1, k2⟩ := z_txt_len f r2 (p1 + 1) l2 (by omega) ht
            refine ⟨by omega, fun e he => ?_⟩
            rcases List.mem_cons.mp he with rfl | he
            · exact f1
            · exact k2 e he
        · cases h
