/-! WHAT THE MODEL's public methods throw (by their number) and answer -/
abbrev t4 (x : Int32) : Prop := x = 0 ∨ x = 1 ∨ x = 2 ∨ x = 3
theorem t4_0 {x : Int32} (h : x ≤ 0) (h4 : t4 x) : x = 0 := by
  rcases h4 with rfl | rfl | rfl | rfl
  · rfl
  · exact absurd h (by decide)
  · exact absurd h (by decide)
  · exact absurd h (by decide)
theorem t4_1 {x : Int32} (h : ¬ x ≤ 0) : ¬ x = 0 := fun z => h (by rw [z]; decide)
theorem t4_b (P : Prop) [Decidable P] : t4 (xk_b P) := by
  unfold xk_b
  split
  · exact Or.inr (Or.inl rfl)
  · exact Or.inl rfl
theorem t4_if {P : Prop} [Decidable P] {a b : Int32} (ha : t4 a) (hb : t4 b) : t4 (if P then a else b) := by
  split
  · exact ha
  · exact hb
theorem t4_00 : t4 0 := Or.inl rfl
theorem t4_01 : t4 1 := Or.inr (Or.inl rfl)
theorem t4_02 : t4 2 := Or.inr (Or.inr (Or.inl rfl))
theorem t4_03 : t4 3 := Or.inr (Or.inr (Or.inr rfl))
theorem mk_inN {x M : Int32} {k : Nat} (hk : k < 2147483648) (hM : M.toInt = (k : Int)) (h : mk_in x 0 M) : x = nI x.toNatClampNeg ∧ x.toNatClampNeg ≤ k ∧ x.toNatClampNeg < 2147483648 := by
  obtain ⟨j, hj, e⟩ := nI_of2 hM h.1 (Int32.not_lt.mp h.2)
  subst e
  rw [nI_clamp (by omega)]
  exact ⟨rfl, hj, by omega⟩
theorem mk_inC {x : Int32} {k : Nat} (hk : k < 2147483647) : mk_in x 0 (nI k - 1) ↔ ∃ j, j < k ∧ x = nI j := by
  constructor
  · intro h
    cases k with
    | zero =>
      exfalso
      have h1 : (nI 0 - 1 : Int32) = -1 := by decide
      rw [h1] at h
      have h2 := Int32.not_lt.mp h.1
      have h3 := Int32.not_lt.mp h.2
      exact absurd (Int32.le_trans h2 h3) (by decide)
    | succ k =>
      rw [nI_pred] at h
      obtain ⟨h1, h2, -⟩ := mk_inN (k := k) (by omega) (nI_toInt (by omega)) h
      exact ⟨x.toNatClampNeg, by omega, h1⟩
  · rintro ⟨j, hj, rfl⟩
    cases k with
    | zero => exact absurd hj (Nat.not_lt_zero _)
    | succ k =>
      rw [nI_pred]
      exact ⟨nI_pos (by omega), fun z => absurd ((nI_ltI (by omega) (by omega)).mp z) (by omega)⟩
def mk_tTable (a b v : Int32) : Int32 := xk_b (¬ (mk_in a 0 3) ∨ (¬ (mk_in b 0 3) ∨ ¬ (mk_in v 0 9)))
theorem mk_tTable_4 (a b v : Int32) : t4 (mk_tTable a b v) := t4_b _
theorem mk_b0 {P : Prop} [Decidable P] (h : xk_b P = 0) : ¬ P := fun hp => by
  unfold xk_b at h
  rw [if_pos hp] at h
  exact absurd h (by decide)
theorem mk_tTable_f {a b v : Int32} (h : mk_tTable a b v = 0) : mk_in a 0 3 ∧ mk_in b 0 3 ∧ mk_in v 0 9 := by
  have h := mk_b0 h
  exact ⟨Decidable.byContradiction fun z => h (Or.inl z), Decidable.byContradiction fun z => h (Or.inr (Or.inl z)), Decidable.byContradiction fun z => h (Or.inr (Or.inr z))⟩
def mk_tFit (a b : Int32) : Int32 := xk_b (¬ (mk_in a 0 255) ∨ ¬ (mk_in b 0 255))
def mk_hi (a : Int32) : Int32 := if 3 ≤ a then (if a = 3 then 9999 else 99) else 36
abbrev mk_isM (a v : Int32) : Prop := mk_in a 0 4 ∧ mk_in v (xk_b (a = 4)) (mk_hi a)
def mk_tMark (a v : Int32) : Int32 := xk_b (¬ mk_isM a v)
theorem mk_tMark_4 (a v : Int32) : t4 (mk_tMark a v) := t4_b _
theorem mk_tMark_f {a v : Int32} (h : mk_tMark a v = 0) : mk_isM a v := Decidable.not_not.mp (mk_b0 h)
def mk_tOwn (n : Nat → Nat) (x : Int32) : Int32 := if mk_in x 0 255 then (if n 0 = 8 then 2 else 0) else 1
theorem mk_tOwn_4 (n : Nat → Nat) (x : Int32) : t4 (mk_tOwn n x) := t4_if (t4_if t4_02 t4_00) t4_01
theorem mk_tOwn_f {n : Nat → Nat} {x : Int32} (h : mk_tOwn n x = 0) : mk_in x 0 255 ∧ n 0 ≠ 8 := by
  unfold mk_tOwn at h
  by_cases c : mk_in x 0 255
  · rw [if_pos c] at h
    refine ⟨c, fun z => ?_⟩
    rw [if_pos z] at h
    exact absurd h (by decide)
  · rw [if_neg c] at h
    exact absurd h (by decide)
def mk_tWord (x : Int32) : Int32 := xk_b (¬ (mk_in x 0 255))
theorem mk_tWord_4 (x : Int32) : t4 (mk_tWord x) := t4_b _
def mk_tSeg (n : Nat → Nat) (x y : Int32) : Int32 := if mk_in x 0 3 then (if mk_in y 0 3 then (if n 1 = 4 then 2 else 0) else 1) else 1
theorem mk_tSeg_4 (n : Nat → Nat) (x y : Int32) : t4 (mk_tSeg n x y) := t4_if (t4_if (t4_if t4_02 t4_00) t4_01) t4_01
theorem mk_tSeg_f {n : Nat → Nat} {x y : Int32} (h : mk_tSeg n x y = 0) : mk_in x 0 3 ∧ mk_in y 0 3 ∧ n 1 ≠ 4 := by
  unfold mk_tSeg at h
  by_cases c : mk_in x 0 3
  · rw [if_pos c] at h
    by_cases c2 : mk_in y 0 3
    · rw [if_pos c2] at h
      refine ⟨c, c2, fun z => ?_⟩
      rw [if_pos z] at h
      exact absurd h (by decide)
    · rw [if_neg c2] at h
      exact absurd h (by decide)
  · rw [if_neg c] at h
    exact absurd h (by decide)
def mk_tJoint (n : Nat → Nat) (x : Int32) : Int32 := if mk_in x 0 3 then (if n 2 = 4 then 2 else 0) else 1
theorem mk_tJoint_4 (n : Nat → Nat) (x : Int32) : t4 (mk_tJoint n x) := t4_if (t4_if t4_02 t4_00) t4_01
theorem mk_tJoint_f {n : Nat → Nat} {x : Int32} (h : mk_tJoint n x = 0) : mk_in x 0 3 ∧ n 2 ≠ 4 := by
  unfold mk_tJoint at h
  by_cases c : mk_in x 0 3
  · rw [if_pos c] at h
    refine ⟨c, fun z => ?_⟩
    rw [if_pos z] at h
    exact absurd h (by decide)
  · rw [if_neg c] at h
    exact absurd h (by decide)
def mk_tInv (n : Nat → Nat) (x y z : Int32) : Int32 := if mk_in x 0 255 then (if mk_in y 1 999 then (if mk_in z (-1) 9 then (if n 4 = 8 then 2 else 0) else 1) else 1) else 1
theorem mk_tInv_4 (n : Nat → Nat) (x y z : Int32) : t4 (mk_tInv n x y z) := t4_if (t4_if (t4_if (t4_if t4_02 t4_00) t4_01) t4_01) t4_01
theorem mk_tInv_f {n : Nat → Nat} {x y z : Int32} (h : mk_tInv n x y z = 0) : mk_in x 0 255 ∧ mk_in y 1 999 ∧ mk_in z (-1) 9 ∧ n 4 ≠ 8 := by
  unfold mk_tInv at h
  by_cases c : mk_in x 0 255
  · rw [if_pos c] at h
    by_cases c2 : mk_in y 1 999
    · rw [if_pos c2] at h
      by_cases c3 : mk_in z (-1) 9
      · rw [if_pos c3] at h
        refine ⟨c, c2, c3, fun z => ?_⟩
        rw [if_pos z] at h
        exact absurd h (by decide)
      · rw [if_neg c3] at h
        exact absurd h (by decide)
    · rw [if_neg c2] at h
      exact absurd h (by decide)
  · rw [if_neg c] at h
    exact absurd h (by decide)
def mk_tPass (nw : Nat → Int32) (x : Int32) : Int32 := if mk_in x 1 48 then (if ((nw 154) + x) ≤ 9999 then 0 else 2) else 1
theorem mk_tPass_f {nw : Nat → Int32} {x : Int32} (h : mk_tPass nw x = 0) : mk_in x 1 48 := by
  unfold mk_tPass at h
  by_cases c : mk_in x 1 48
  · exact c
  · rw [if_neg c] at h
    exact absurd h (by decide)
theorem mk_in48 {x : Int32} (h : mk_in x 1 48) : x = nI x.toNatClampNeg ∧ 1 ≤ x.toNatClampNeg ∧ x.toNatClampNeg ≤ 48 := by
  have h1 := Int32.not_lt.mp h.1
  have h0 : mk_in x 0 48 := ⟨fun z => h.1 (Int32.lt_trans z (by decide)), h.2⟩
  obtain ⟨e, e1, -⟩ := mk_inN (k := 48) (by omega) (by decide) h0
  refine ⟨e, ?_, e1⟩
  rcases Nat.eq_zero_or_pos x.toNatClampNeg with z | z
  · exfalso
    rw [z] at e
    rw [e] at h1
    exact absurd h1 (by decide)
  · exact z
def mk_tAhead (x y : Int32) : Int32 := xk_b (¬ (mk_in x 1 48) ∨ ¬ (mk_in y 0 5))
theorem mk_tAhead_4 (x y : Int32) : t4 (mk_tAhead x y) := t4_b _
theorem mk_tAhead_f {x y : Int32} (h : mk_tAhead x y = 0) : mk_in x 1 48 ∧ mk_in y 0 5 := by
  have h := mk_b0 h
  exact ⟨Decidable.byContradiction fun z => h (Or.inl z), Decidable.byContradiction fun z => h (Or.inr z)⟩
def mk_tSum (x : Int32) : Int32 := xk_b (¬ (mk_in x 0 5))
/-! a new cell -/
def mk_add0 (nw : Nat → Int32) (k : Nat) (st : Int32) : Nat → Int32 := upd nw k st
def mk_add1 (nw : Nat → Int32) (k : Nat) (st : Int32) : Nat → Int32 := upd (mk_add0 nw k st) (40 + k) (xk_b (¬ (st ≤ 1)))
def mk_add2 (nw : Nat → Int32) (k : Nat) (st wk : Int32) : Nat → Int32 := upd (mk_add1 nw k st) (80 + k) (if ¬ (st ≤ 1) then wk else 0)
def mk_add3 (nw : Nat → Int32) (k : Nat) (st wk : Int32) : Nat → Int32 := upd (mk_add2 nw k st wk) 152 (mk_add2 nw k st wk 152 + 1)
def mk_add4 (nw : Nat → Int32) (k : Nat) (st wk : Int32) : Nat → Int32 := upd (mk_add3 nw k st wk) 153 (mk_add3 nw k st wk 153 + xk_b (¬ (¬ (st ≤ 1))))
def mk_addS (σ : Nat → Nat → Int32) (k : Nat) (lo ki pa : Int32) : Nat → Nat → Int32 := va_up (va_up (va_up σ 6 (upd (σ 6) k lo)) 7 (upd (σ 7) k ki)) 8 (upd (σ 8) k pa)
def mk_tDraw (n : Nat → Nat) (z : Int32) : Int32 := if mk_in z 0 3 then (if n 3 = 40 then 3 else 0) else 2
theorem mk_tDraw_4 (n : Nat → Nat) (z : Int32) : t4 (mk_tDraw n z) := t4_if (t4_if t4_03 t4_00) t4_02
theorem mk_tDraw_f {n : Nat → Nat} {z : Int32} (h : mk_tDraw n z = 0) : mk_in z 0 3 ∧ n 3 ≠ 40 := by
  unfold mk_tDraw at h
  by_cases c : mk_in z 0 3
  · rw [if_pos c] at h
    refine ⟨c, fun z => ?_⟩
    rw [if_pos z] at h
    exact absurd h (by decide)
  · rw [if_neg c] at h
    exact absurd h (by decide)
def mk_lock (σ : Nat → Nat → Int32) (a b : Nat) (z : Int32) : Int32 := ((σ 3 a + (4 * σ 4 a)) + (16 * σ 5 b)) + (64 * z)
def mk_school (σ : Nat → Nat → Int32) (its : Int32) : Int32 := if its < σ 1 1 then (if σ 1 2 ≤ its then 2 else 1) else 0
abbrev mk_calms (σ : Nat → Nat → Int32) (its st h : Int32) : Prop := ¬ (h = 0) ∧ (st = 2 ∧ ¬ (its < (σ 1 1 - 2)))
def mk_kind (σ : Nat → Nat → Int32) (its st h : Int32) : Int32 := if mk_calms σ its st h then 2 else (if h = 0 then 0 else 1)
def mk_tSlip (σ : Nat → Nat → Int32) (nw : Nat → Int32) (n : Nat → Nat) (k q : Nat) (z : Int32) : Int32 := if mk_in z 0 3 then (if nI (mk_ln (σ 6 k) q) = z then 2 else (if nw k = 3 then (if n 3 = 40 then 3 else 0) else 3)) else 2
theorem mk_tSlip_4 (σ : Nat → Nat → Int32) (nw : Nat → Int32) (n : Nat → Nat) (k q : Nat) (z : Int32) : t4 (mk_tSlip σ nw n k q z) := t4_if (t4_if t4_02 (t4_if (t4_if t4_03 t4_00) t4_03)) t4_02
theorem mk_tSlip_f {σ : Nat → Nat → Int32} {nw : Nat → Int32} {n : Nat → Nat} {k q : Nat} {z : Int32} (h : mk_tSlip σ nw n k q z = 0) : mk_in z 0 3 ∧ ¬ (nI (mk_ln (σ 6 k) q) = z) ∧ nw k = 3 ∧ n 3 ≠ 40 := by
  unfold mk_tSlip at h
  by_cases c : mk_in z 0 3
  · rw [if_pos c] at h
    by_cases c2 : nI (mk_ln (σ 6 k) q) = z
    · rw [if_pos c2] at h
      exact absurd h (by decide)
    · rw [if_neg c2] at h
      by_cases c3 : nw k = 3
      · rw [if_pos c3] at h
        refine ⟨c, c2, c3, fun z => ?_⟩
        rw [if_pos z] at h
        exact absurd h (by decide)
      · rw [if_neg c3] at h
        exact absurd h (by decide)
  · rw [if_neg c] at h
    exact absurd h (by decide)
def mk_lockS (σ : Nat → Nat → Int32) (k q : Nat) (z : Int32) : Int32 := σ 6 k + ((z - nI (mk_ln (σ 6 k) q)) * (1 <<< (nI (2 * q) &&& 31)))
def mk_stS (σ : Nat → Nat → Int32) (its : Int32) : Int32 := if its < σ 1 1 then 3 else 0
def mk_tCell (y : Int32) : Int32 := if mk_in y 0 5 then 0 else 2
theorem mk_tCell_4 (y : Int32) : t4 (mk_tCell y) := t4_if t4_00 t4_02
theorem mk_tCell_f {y : Int32} (h : mk_tCell y = 0) : mk_in y 0 5 := by
  unfold mk_tCell at h
  by_cases c : mk_in y 0 5
  · exact c
  · rw [if_neg c] at h
    exact absurd h (by decide)
def mk_cellIs (σ : Nat → Nat → Int32) (nw : Nat → Int32) (k : Nat) (j : Nat) : Int32 := match j with
  | 0 => σ 6 k
  | 1 => σ 7 k
  | 2 => nw k
  | 3 => nw (40 + k)
  | 4 => nw (80 + k)
  | _ => σ 8 k
def mk_tChange (nw : Nat → Int32) (k : Nat) (y : Int32) : Int32 := if mk_in y 0 255 then (if mk_al nw k then 0 else 3) else 2
theorem mk_tChange_4 (nw : Nat → Int32) (k : Nat) (y : Int32) : t4 (mk_tChange nw k y) := t4_if (t4_if t4_00 t4_03) t4_02
def mk_tIs (y : Int32) : Int32 := if mk_in y 0 4 then 0 else 2
theorem mk_tIs_4 (y : Int32) : t4 (mk_tIs y) := t4_if t4_00 t4_02
theorem mk_tIs_f {y : Int32} (h : mk_tIs y = 0) : mk_in y 0 4 := by
  unfold mk_tIs at h
  by_cases c : mk_in y 0 4
  · exact c
  · rw [if_neg c] at h
    exact absurd h (by decide)
def mk_invIs (σ : Nat → Nat → Int32) (nw : Nat → Int32) (k : Nat) (j : Nat) : Int32 := match j with
  | 0 => σ 9 k
  | 1 => nw (120 + k)
  | 2 => σ 10 k
  | 3 => nw (128 + k)
  | _ => nw (136 + k)
/-! why -/
abbrev mk_wt (σ : Nat → Nat → Int32) (b k : Nat) : Prop := mk_tch σ (σ 6 k) (σ 9 b)
def mk_why1 (σ : Nat → Nat → Int32) (b : Nat) : Nat → Int32
  | 0 => 0
  | k + 1 => if mk_wt σ b k then mk_why1 σ b k + 1 else mk_why1 σ b k
def mk_why2 (σ : Nat → Nat → Int32) (nw : Nat → Int32) (b : Nat) : Nat → Int32
  | 0 => 0
  | k + 1 => if mk_wt σ b k then mk_why2 σ nw b k + xk_b (¬ (1 < nw k)) else mk_why2 σ nw b k
def mk_why3 (σ : Nat → Nat → Int32) (nw : Nat → Int32) (b : Nat) : Nat → Int32
  | 0 => 0
  | k + 1 => if mk_wt σ b k then mk_why3 σ nw b k + xk_b (nw k = 4) else mk_why3 σ nw b k
def mk_why4 (σ : Nat → Nat → Int32) (nw : Nat → Int32) (b : Nat) : Nat → Int32
  | 0 => 0
  | k + 1 => if mk_wt σ b k then mk_why4 σ nw b k + xk_b (nw k = 3) else mk_why4 σ nw b k
def mk_why5 (σ : Nat → Nat → Int32) (nw : Nat → Int32) (b : Nat) : Nat → Int32
  | 0 => 0
  | k + 1 => if mk_wt σ b k then mk_why5 σ nw b k + xk_b (nw k = 3 ∧ σ 7 k = 0) else mk_why5 σ nw b k
def mk_why (σ : Nat → Nat → Int32) (nw : Nat → Int32) (n : Nat → Nat) (b : Nat) : Int32 :=
  if mk_al nw b then (if mk_why1 σ b (n 3) = 0 then 2 else (if mk_why1 σ b (n 3) = mk_why2 σ nw b (n 3) then 3 else (if mk_why1 σ b (n 3) = (mk_why2 σ nw b (n 3) + mk_why3 σ nw b (n 3)) then 4 else (if mk_why4 σ nw b (n 3) = 0 then 5 else (if mk_why5 σ nw b (n 3) = 0 then 6 else 0))))) else 1
def mk_cpR (f nw : Nat → Int32) : Nat → Nat → Int32
  | 0 => f
  | k + 1 => upd (mk_cpR f nw k) k (nw k)
/-! holes -/
abbrev mk_lets (σ : Nat → Nat → Int32) (n : Nat → Nat) (x : Int32) : Prop := ¬ (σ 1 1 ≤ mk_near σ n x) ∧ ¬ (mk_near σ n x < σ 1 2)
abbrev mk_tlock (σ : Nat → Nat → Int32) (n : Nat → Nat) (i : Nat) : Int32 := mk_lock σ (i / 4 / n 2) (i / 4 % n 2) (nI (i % 4))
abbrev mk_tcd1 (σ : Nat → Nat → Int32) (n : Nat → Nat) (c : Int32) (i : Nat) : Prop := mk_tch σ (mk_tlock σ n i) c ∧ mk_lets σ n (mk_tlock σ n i)
def mk_tcdR (σ : Nat → Nat → Int32) (n : Nat → Nat) (c : Int32) : Nat → Bool
  | 0 => false
  | i + 1 => mk_tcdR σ n c i || decide (mk_tcd1 σ n c i)
def mk_tcd (σ : Nat → Nat → Int32) (n : Nat → Nat) (c : Int32) : Bool := mk_tcdR σ n c (4 * n 1 * n 2)
theorem mk_tcdR_up (σ : Nat → Nat → Int32) (n : Nat → Nat) (c : Int32) (i : Nat) (h : mk_tcdR σ n c i = true) : ∀ j, mk_tcdR σ n c (i + j) = true := by
  intro j
  induction j with
  | zero => exact h
  | succ j ih => show (mk_tcdR σ n c (i + j) || _) = true; rw [ih]; rfl
theorem mk_tcdR_at {σ : Nat → Nat → Int32} {n : Nat → Nat} {c : Int32} {i N : Nat} (hi : i < N) (h : mk_tcd1 σ n c i) : mk_tcdR σ n c N = true := by
  have h1 : mk_tcdR σ n c (i + 1) = true := by
    show (mk_tcdR σ n c i || decide (mk_tcd1 σ n c i)) = true
    rw [decide_eq_true h, Bool.or_true]
  have h2 := mk_tcdR_up σ n c (i + 1) h1 (N - (i + 1))
  rwa [show i + 1 + (N - (i + 1)) = N by omega] at h2
theorem mk_tcdR_no {σ : Nat → Nat → Int32} {n : Nat → Nat} {c : Int32} {i : Nat} (h0 : mk_tcdR σ n c i = false) (h : ¬ mk_tcd1 σ n c i) : mk_tcdR σ n c (i + 1) = false := by
  show (mk_tcdR σ n c i || decide (mk_tcd1 σ n c i)) = false
  rw [h0, decide_eq_false h]
  rfl
def mk_holesR (σ : Nat → Nat → Int32) (n : Nat → Nat) : Nat → Int32
  | 0 => 0
  | k + 1 => mk_holesR σ n k + xk_b (¬ (mk_tcd σ n (nI k) = true))
def mk_lib1 (σ : Nat → Nat → Int32) (x : Int32) : Nat → Int32
  | 0 => 0
  | k + 1 => xk_b (¬ (mk_lib1 σ x k = 0) ∨ (σ 3 k = nI (mk_ln x 0) ∧ σ 4 k = nI (mk_ln x 1)))
def mk_lib2 (σ : Nat → Nat → Int32) (x : Int32) : Nat → Int32
  | 0 => 0
  | k + 1 => xk_b (¬ (mk_lib2 σ x k = 0) ∨ σ 5 k = nI (mk_ln x 2))
abbrev mk_isL (σ : Nat → Nat → Int32) (n : Nat → Nat) (x : Int32) : Prop := ¬ (mk_lib1 σ x (n 1) = 0) ∧ ¬ (mk_lib2 σ x (n 2) = 0)
abbrev mk_isA (σ : Nat → Nat → Int32) (n : Nat → Nat) (x : Int32) : Prop := mk_isL σ n x ∧ mk_lets σ n x
def mk_clrR (f : Nat → Int32) : Nat → Nat → Int32
  | 0 => f
  | k + 1 => upd (mk_clrR f k) k 0
def mk_rchR (σ : Nat → Nat → Int32) (w : Int32) (f : Nat → Int32) : Nat → Nat → Int32
  | 0 => f
  | j + 1 => upd (mk_rchR σ w f j) j (xk_b (¬ (mk_rchR σ w f j j = 0) ∨ mk_tch σ w (nI j)))
def mk_rch1 (σ : Nat → Nat → Int32) (n : Nat → Nat) (w : Int32) (f : Nat → Int32) : Nat → Int32 := if mk_isA σ n w then mk_rchR σ w f 256 else f
def mk_rchW (σ : Nat → Nat → Int32) (n : Nat → Nat) (f : Nat → Int32) : Nat → Nat → Int32
  | 0 => f
  | k + 1 => mk_rch1 σ n (nI k) (mk_rchW σ n f k)
def mk_cntR (f : Nat → Int32) : Nat → Int32
  | 0 => 0
  | k + 1 => mk_cntR f k + xk_b (f k = 0)
def mk_anew (σ : Nat → Nat → Int32) (n : Nat → Nat) (f : Nat → Int32) : Nat → Int32 := mk_rchW σ n (mk_clrR f 256) 256
theorem mk_inP {j k : Nat} (h : j ≤ k) (hk : k < 2147483648) : mk_in (nI j) 0 (nI k) := ⟨nI_pos (by omega), fun z => absurd ((nI_ltI (by omega) (by omega)).mp z) (by omega)⟩
theorem mk_rch_of1 {σ : Nat → Nat → Int32} {n : Nat → Nat} {w : Int32} {f : Nat → Int32} {j : Nat} (h1 : 256 ≤ j) (h2 : j ≤ 256) (h3 : j = 0 ∨ mk_isA σ n w) : mk_rchR σ w f j = mk_rch1 σ n w f := by
  have e : j = 256 := by omega
  unfold mk_rch1
  rw [if_pos (h3.resolve_left (by omega)), e]
theorem mk_rch_of2 {σ : Nat → Nat → Int32} {n : Nat → Nat} {w : Int32} {f : Nat → Int32} {j : Nat} (h1 : ¬ mk_isA σ n w) (h3 : j = 0 ∨ mk_isA σ n w) : mk_rchR σ w f j = mk_rch1 σ n w f := by
  unfold mk_rch1
  rw [if_neg h1, h3.resolve_right h1]
  rfl
