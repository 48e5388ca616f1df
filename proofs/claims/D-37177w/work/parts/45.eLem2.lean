/-! a list's places behind add; an Integer's birth -/
theorem e_up {f : Nat → Option Nat} (g : Nat → Nat) (n v : Nat) (h : ∀ i, i < n → f i = some (g i)) (i : Nat) (hi : i < n + 1) : va_up f n (some v) i = some (va_up g n v i) := by
  unfold va_up
  by_cases e : i = n
  · rw [if_pos e, if_pos e]
  · rw [if_neg e, if_neg e]
    exact h i (by omega)
theorem e_aa {D : xk_G} {n aa dd d' : Nat} {X : Prop} (hL : (n = 0 ∧ aa = D.2 100) ∨ (0 < n ∧ aa = dd ∧ X)) (z : 0 < n ∧ d' = aa) : d' = dd := by
  rcases hL with h | h
  · omega
  · rw [z.2, h.2.1]
theorem e_df9 : ∀ j, j < 1 → defaultValue (tyJ9 j) = vp_V [.int 0] j := by
  intro j hj
  have : j = 0 := by omega
  subst this
  decide +kernel
