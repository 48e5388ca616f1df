/-! what the system computes, where it is written otherwise than in the model -/
theorem xk_mx (x y : Int32) : (if x < y then y else x) = (if x ≤ y then y else x) := by
  by_cases h : x < y
  · rw [if_pos h, if_pos (Int32.le_of_lt h)]
  · rw [if_neg h]
    by_cases h2 : x ≤ y
    · rw [if_pos h2]
      exact Int32.le_antisymm h2 (Int32.not_lt.mp h)
    · rw [if_neg h2]
theorem xk_bst (p q r : Prop) [Decidable p] [Decidable q] [Decidable r] (a b : Int32) : (if p then (if q ∨ ¬ r then a else b) else b) = (if p then (if q then a else (if r then b else a)) else b) := by
  by_cases hp : p
  · rw [if_pos hp, if_pos hp]
    by_cases hq : q
    · rw [if_pos (Or.inl hq), if_pos hq]
    · rw [if_neg hq]
      by_cases hr : r
      · rw [if_pos hr, if_neg (fun h => h.elim hq (fun z => z hr))]
      · rw [if_neg hr, if_pos (Or.inr hr)]
  · rw [if_neg hp, if_neg hp]
def bk_lock (σ : Nat → Nat → Int32) (a b : Nat) (z : Int32) : Int32 := ((((σ 3 a) + (4 * (σ 4 a))) ||| ((σ 5 b) <<< ((4 : Int32) &&& 31))) ||| (z <<< ((6 : Int32) &&& 31)))
abbrev bk_is (σ : Nat → Nat → Int32) (nw : Nat → Int32) (k : Nat) (x y : Int32) : Prop := σ 7 k = x ∧ nw k = y
abbrev bk_lost (nw : Nat → Int32) (k : Nat) : Prop := nw k = 0 ∨ nw k = 1
def bk_hlpR (σ : Nat → Nat → Int32) (nw : Nat → Int32) (n : Nat → Nat) : Nat → Int32
  | 0 => 0
  | k + 1 => bk_hlpR σ nw n k + xk_b (bk_is σ nw k 1 3 ∧ mk_mts σ nw n (σ 6 k))
def bk_clmR (σ : Nat → Nat → Int32) (nw : Nat → Int32) (c : Int32) : Nat → Int32
  | 0 => 0
  | k + 1 => bk_clmR σ nw c k ||| xk_b (bk_is σ nw k 2 2 ∧ mk_tch σ (σ 6 k) c)
theorem xk_b_or (P Q : Prop) [Decidable P] [Decidable Q] : xk_b P ||| xk_b Q = xk_b (P ∨ Q) := by
  unfold xk_b
  by_cases hp : P <;> by_cases hq : Q <;> simp [hp, hq]
theorem bk_clmR_b (σ : Nat → Nat → Int32) (nw : Nat → Int32) (c : Int32) : ∀ k, bk_clmR σ nw c k = 0 ∨ bk_clmR σ nw c k = 1 := by
  intro k
  induction k with
  | zero => exact Or.inl rfl
  | succ k ih =>
    show (bk_clmR σ nw c k ||| xk_b _) = 0 ∨ (bk_clmR σ nw c k ||| xk_b _) = 1
    rcases ih with h | h <;> rw [h] <;> unfold xk_b <;> split <;> decide
theorem bk_clmR_01 (σ : Nat → Nat → Int32) (nw : Nat → Int32) (c : Int32) (k : Nat) : narrow .boolean (.int (bk_clmR σ nw c k)) = .int (bk_clmR σ nw c k) := by
  rcases bk_clmR_b σ nw c k with h | h <;> rw [h] <;> decide +kernel
