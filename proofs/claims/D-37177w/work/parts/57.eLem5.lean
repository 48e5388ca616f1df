/-! the kind of a drawn cell -/
def bk_kind (σ : Nat → Nat → Int32) (n : Nat → Nat) (lo h : Int32) : Int32 := if ¬ (h = 0) ∧ (mk_school σ (mk_near σ n lo) = 2 ∧ ¬ (mk_near σ n lo < (σ 1 1 - 2))) then 2 else (if h = 0 then 0 else 1)
