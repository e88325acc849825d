set_option maxRecDepth 100000
set_option linter.unusedVariables false
/-! FEED, TREE, VALUE, HEIGHT, PAIRS, LAST APPLIED, SHARES -/
def fl_d (m : Nat) : Bool := decide ((FP.ddiv (FP.i2d (nI m)) (4617315517961601024 : UInt64)) &&& 0x7fffffffffffffff ≤ 0x7ff0000000000000)
def fl_f (a b : Nat) : Bool := decide ((FP.fdiv (FP.i2f (nI a)) (FP.i2f (nI b))) &&& 0x7fffffff ≤ 0x7f800000)
def fl_ds : Nat → Bool
  | 0 => true
  | m + 1 => fl_d m && fl_ds m
def fl_fs : Nat → Nat → Bool
  | 0, _ => true
  | m + 1, b => fl_f m b && fl_fs m b
theorem fl_ds_of : ∀ (N m : Nat), fl_ds N = true → m < N → fl_d m = true
  | N + 1, m, h, hm => by
    rw [fl_ds, Bool.and_eq_true] at h
    rcases Nat.lt_or_ge m N with c | c
    · exact fl_ds_of N m h.2 c
    · rw [show m = N by omega]; exact h.1
theorem fl_fs_of : ∀ (N m b : Nat), fl_fs N b = true → m < N → fl_f m b = true
  | N + 1, m, b, h, hm => by
    rw [fl_fs, Bool.and_eq_true] at h
    rcases Nat.lt_or_ge m N with c | c
    · exact fl_fs_of N m b h.2 c
    · rw [show m = N by omega]; exact h.1
theorem fl_d_ok : fl_ds 5000 = true := by decide +kernel
theorem fl_f_ok : ∀ b : Fin 24, fl_fs 26 (b.1 + 1) = true := by decide +kernel
