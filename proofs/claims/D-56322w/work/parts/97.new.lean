set_option maxRecDepth 100000
set_option linter.unusedVariables false
/-! THE NEW SHEET -/
section NEW
variable {Ev : rb_E} {h : AH} {o : Nat}
def z_new : Zs := ([], fun i => [0, 0, 2, 2, 4, 4, 3].getD i 0, fun i => [0, 1, 2, 4, 3, 5].getD i 0, fun i => decide (3 < i), fun _ => 0)
theorem z_new_ok : Zok z_new := by
  refine ⟨by decide, by simp [z_new], by decide, ?_, ?_, fun i _ => by show 0 < 1000; omega⟩
  · decide
  · decide
theorem x2_new (hs : SB Ev (rd Ev h) (o + 1) (o + 2) 16 0 0 []) (e1 : rd Ev h o = some (.inr (1, [.ref (o + 1), .ref (o + 3), .ref (o + 4), .ref (o + 5), .ref (o + 6)]))) (e2 : rd Ev h (o + 3) = some (.inl (eA Ev 0, 7, .inl z_d0))) (e3 : rd Ev h (o + 4) = some (.inl (eA Ev 7, 6, aQ (z_d1 Ev)))) (e4 : rd Ev h (o + 5) = some (.inl (eA Ev 2, 7, .inl z_d2))) (e5 : rd Ev h (o + 6) = some (.inl (eA Ev 0, 5, .inl (fun _ => 0)))) : SM Ev (rd Ev h) o (o + 2) 16 z_new := by
  refine ⟨⟨e1, ⟨0, hs⟩, ⟨_, e2, ?_⟩, ⟨_, e3, ?_⟩, ⟨_, e4, ?_⟩, ⟨_, e5, fun i _ => rfl⟩, by omega⟩, Or.inl rfl⟩
  · decide
  · intro i hi
    match i, hi with
    | 0, _ => rfl
    | 1, _ => rfl
    | 2, _ => rfl
    | 3, _ => rfl
    | 4, _ => rfl
    | 5, _ => rfl
  · decide
end NEW
