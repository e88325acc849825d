set_option maxRecDepth 100000
set_option linter.unusedVariables false
/-! PLAIN LAWS: bracketings -/
/-- the values of all bracketings of n things from the i-th on -/
def b_val {α : Type} (row : Nat → α) (ap : Nat → α → α → α) : Nat → Nat → Nat → List α
  | 0, _, _ => []
  | f + 1, i, n => if n = 1 then [row i] else (List.range (n - 1)).flatMap fun l => (b_val row ap f i (l + 1)).flatMap fun a => (b_val row ap f (i + l + 1) (n - l - 1)).map fun b => ap (i + l + 1) a b
def b_red {α : Type} (ap : Nat → α → α → α) : List α → List Nat → Nat → List α
  | a :: b :: r, s :: _, 0 => ap s a b :: r
  | a :: r, _ :: ss, k + 1 => a :: b_red ap r ss k
  | l, _, _ => l
/-- the values that are made by putting neighbours together, level by level -/
def b_mk {α : Type} (ap : Nat → α → α → α) : Nat → List α → List Nat → Nat → List α
  | 0, _, _, _ => []
  | f + 1, th, sg, from_ => (if th.length = 1 then th else []) ++ (List.range (th.length - 1 - from_)).flatMap fun j => b_mk ap f (b_red ap th sg (from_ + j)) (sg.eraseIdx (from_ + j)) (from_ + j - 1)
theorem b_val_map {α β : Type} (φ : α → β) (row : Nat → α) (row' : Nat → β) (ap : Nat → α → α → α) (ap' : Nat → β → β → β) (hr : ∀ i, φ (row i) = row' i) (ha : ∀ k a b, φ (ap k a b) = ap' k (φ a) (φ b)) : ∀ (f i n : Nat), (b_val row ap f i n).map φ = b_val row' ap' f i n
  | 0, _, _ => rfl
  | f + 1, i, n => by
    simp only [b_val]
    split
    · simp [hr]
    · simp only [List.map_flatMap, List.map_map]
      congr 1
      funext l
      rw [← b_val_map φ row row' ap ap' hr ha f i, List.flatMap_map]
      congr 1
      funext a
      rw [← b_val_map φ row row' ap ap' hr ha f, List.map_map]
      congr 1
      funext b
      exact ha _ _ _
theorem b_red_map {α β : Type} (φ : α → β) (ap : Nat → α → α → α) (ap' : Nat → β → β → β) (ha : ∀ k a b, φ (ap k a b) = ap' k (φ a) (φ b)) : ∀ (th : List α) (sg : List Nat) (k : Nat), (b_red ap th sg k).map φ = b_red ap' (th.map φ) sg k
  | a :: b :: r, s :: ss, 0 => by simp [b_red, ha]
  | [a], s :: ss, 0 => by simp [b_red]
  | a :: r, s :: ss, k + 1 => by simp [b_red, b_red_map φ ap ap' ha r ss k]
  | [], sg, k => by simp [b_red]
  | a :: r, [], k => by
    cases k <;> cases r <;> simp [b_red]
theorem b_mk_map {α β : Type} (φ : α → β) (ap : Nat → α → α → α) (ap' : Nat → β → β → β) (ha : ∀ k a b, φ (ap k a b) = ap' k (φ a) (φ b)) : ∀ (f : Nat) (th : List α) (sg : List Nat) (k : Nat), (b_mk ap f th sg k).map φ = b_mk ap' f (th.map φ) sg k
  | 0, _, _, _ => rfl
  | f + 1, th, sg, k => by
    simp only [b_mk, List.map_append, List.map_flatMap, List.length_map]
    congr 1
    · split <;> simp
    · congr 1
      funext j
      rw [b_mk_map φ ap ap' ha f, b_red_map φ ap ap' ha]
/-- trees of brackets -/
def b_eq : TT → TT → Bool
  | .var i, .var j => Nat.beq i j
  | .op a b, .op c d => b_eq a c && b_eq b d
  | _, _ => false
theorem b_eq_ok : ∀ {a b : TT}, b_eq a b = true → a = b
  | .var i, .var j, h => by rw [Nat.eq_of_beq_eq_true h]
  | .op a b, .op c d, h => by
    simp only [b_eq, Bool.and_eq_true] at h
    rw [b_eq_ok h.1, b_eq_ok h.2]
  | .var i, .op c d, h => by simp [b_eq] at h
  | .op a b, .var j, h => by simp [b_eq] at h
def b_ap (k : Nat) (a b : TT) : TT := .op (.var k) (.op a b)
def b_S (n : Nat) : List TT := b_val (fun i => .var i) b_ap 9 0 n
def b_M (n : Nat) : List TT := b_mk b_ap 9 ((List.range n).map fun i => .var i) ((List.range (n - 1)).map fun i => i + 1) 0
def b_chk (n : Nat) : Bool := Nat.beq (b_S n).length (b_M n).length && ((b_S n).all fun a => (b_M n).any fun b => b_eq a b) && (b_M n).all fun a => (b_S n).any fun b => b_eq a b
theorem b_chk1 : b_chk 1 = true := by decide +kernel
theorem b_chk2 : b_chk 2 = true := by decide +kernel
theorem b_chk3 : b_chk 3 = true := by decide +kernel
theorem b_chk4 : b_chk 4 = true := by decide +kernel
theorem b_chk5 : b_chk 5 = true := by decide +kernel
theorem b_chk6 : b_chk 6 = true := by decide +kernel
theorem b_chk7 : b_chk 7 = true := by decide +kernel
theorem b_chk8 : b_chk 8 = true := by decide +kernel
theorem b_chk_ok {n : Nat} (h : b_chk n = true) : (b_S n).length = (b_M n).length ∧ (∀ a ∈ b_S n, a ∈ b_M n) ∧ ∀ a ∈ b_M n, a ∈ b_S n := by
  simp only [b_chk, Bool.and_eq_true, List.all_eq_true, List.any_eq_true] at h
  obtain ⟨⟨h1, h2⟩, h3⟩ := h
  refine ⟨Nat.eq_of_beq_eq_true h1, fun a ha => ?_, fun a ha => ?_⟩
  · obtain ⟨b, hb, e⟩ := h2 a ha
    rw [b_eq_ok e]; exact hb
  · obtain ⟨b, hb, e⟩ := h3 a ha
    rw [b_eq_ok e]; exact hb
theorem b_chk_all {n : Nat} (h1 : 1 ≤ n) (h8 : n ≤ 8) : b_chk n = true := by
  have : n = 1 ∨ n = 2 ∨ n = 3 ∨ n = 4 ∨ n = 5 ∨ n = 6 ∨ n = 7 ∨ n = 8 := by omega
  rcases this with rfl | rfl | rfl | rfl | rfl | rfl | rfl | rfl
  · exact b_chk1
  · exact b_chk2
  · exact b_chk3
  · exact b_chk4
  · exact b_chk5
  · exact b_chk6
  · exact b_chk7
  · exact b_chk8
def b_ev (row : Nat → Nat) (ap : Nat → Nat → Nat → Nat) : TT → Nat
  | .var i => row i
  | .op (.var k) (.op a b) => ap k (b_ev row ap a) (b_ev row ap b)
  | _ => 0
/-- making and finding come to the same values, and to as many -/
theorem b_same (row : Nat → Nat) (ap : Nat → Nat → Nat → Nat) {n : Nat} (h1 : 1 ≤ n) (h8 : n ≤ 8) : (b_mk ap 9 ((List.range n).map row) ((List.range (n - 1)).map fun i => i + 1) 0).length = (b_val row ap 9 0 n).length ∧ (∀ v, v ∈ b_mk ap 9 ((List.range n).map row) ((List.range (n - 1)).map fun i => i + 1) 0 ↔ v ∈ b_val row ap 9 0 n) := by
  have hc := b_chk_ok (b_chk_all h1 h8)
  have ha : ∀ k a b, b_ev row ap (b_ap k a b) = ap k (b_ev row ap a) (b_ev row ap b) := fun k a b => by simp [b_ap, b_ev]
  have e1 : (b_S n).map (b_ev row ap) = b_val row ap 9 0 n := b_val_map (b_ev row ap) _ row b_ap ap (fun i => by simp [b_ev]) ha 9 0 n
  have e2 : (b_M n).map (b_ev row ap) = b_mk ap 9 ((List.range n).map row) ((List.range (n - 1)).map fun i => i + 1) 0 := by
    have e0 : ((List.range n).map fun i => (.var i : TT)).map (b_ev row ap) = (List.range n).map row := by
      rw [List.map_map]
      exact List.map_congr_left fun i _ => by simp [b_ev]
    unfold b_M
    rw [b_mk_map (b_ev row ap) b_ap ap ha, e0]
  rw [← e1, ← e2]
  refine ⟨by rw [List.length_map, List.length_map, hc.1], fun v => ⟨fun h => ?_, fun h => ?_⟩⟩
  · obtain ⟨a, ha, rfl⟩ := List.mem_map.mp h
    exact List.mem_map.mpr ⟨a, hc.2.2 a ha, rfl⟩
  · obtain ⟨a, ha, rfl⟩ := List.mem_map.mp h
    exact List.mem_map.mpr ⟨a, hc.2.1 a ha, rfl⟩
