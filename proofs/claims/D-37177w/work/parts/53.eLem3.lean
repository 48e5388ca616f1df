/-! a new Cell's, a new Invader's fields -/
theorem e_dfX5 : ∀ j, j < 5 → defaultValue (tyX5 j) = vp_V [.int 0, .int 0, .int 0, .int 0, .int 0] j := by
  intro j hj
  rcases (show j = 0 ∨ j = 1 ∨ j = 2 ∨ j = 3 ∨ j = 4 by omega) with rfl | rfl | rfl | rfl | rfl <;> decide +kernel
theorem e_dfX4 : ∀ j, j < 7 → defaultValue (tyX4 j) = vp_V [.int 0, .int 0, .int 0, .int 0, .int 0, .int 0, .int 0] j := by
  intro j hj
  rcases (show j = 0 ∨ j = 1 ∨ j = 2 ∨ j = 3 ∨ j = 4 ∨ j = 5 ∨ j = 6 by omega) with rfl | rfl | rfl | rfl | rfl | rfl | rfl <;> decide +kernel
