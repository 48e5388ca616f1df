/-! WHAT THE MODEL COMPUTES, as plain functions of its arrays -/
abbrev mk_in (x a b : Int32) : Prop := ¬ (x < a) ∧ ¬ (b < x)
/-- the letter of a word at a place -/
def mk_ln (w : Int32) (p : Nat) : Nat := (w >>> (nI (2 * p) &&& 31)).toBitVec.toNat % 2 ^ 2
theorem mk_ln_lt (w : Int32) (p : Nat) : mk_ln w p < 4 := Nat.mod_lt _ (by decide)
theorem mk_ln_eq (w : Int32) (p : Nat) : (w >>> (nI (2 * p) &&& 31)) &&& 3 = nI (mk_ln w p) := pk_and _ 2 (by decide)
def mk_fitR (T : Nat → Int32) (l c : Int32) : Nat → Int32
  | 0 => 0
  | k + 1 => mk_fitR T l c k + T (4 * mk_ln l k + mk_ln c k)
def mk_fit (T : Nat → Int32) (l c : Int32) : Int32 := mk_fitR T l c 4
abbrev mk_tch (σ : Nat → Nat → Int32) (l c : Int32) : Prop := ¬ (mk_fit (σ 0) l c < σ 1 0)
def mk_nearR (σ : Nat → Nat → Int32) (l : Int32) : Nat → Int32
  | 0 => 0
  | k + 1 => if mk_fit (σ 0) l (σ 2 k) ≤ mk_nearR σ l k then mk_nearR σ l k else mk_fit (σ 0) l (σ 2 k)
def mk_near (σ : Nat → Nat → Int32) (n : Nat → Nat) (l : Int32) : Int32 := mk_nearR σ l (n 0)
abbrev mk_al (nw : Nat → Int32) (k : Nat) : Prop := ¬ (nw (120 + k) ≤ 0)
def mk_metR (σ : Nat → Nat → Int32) (nw : Nat → Int32) (l : Int32) : Nat → Int32
  | 0 => -1
  | k + 1 => if mk_al nw k ∧ mk_tch σ l (σ 9 k) then (if mk_metR σ nw l k = (-1) then nI k else (if mk_fit (σ 0) l (σ 9 k) ≤ mk_fit (σ 0) l (σ 9 (mk_metR σ nw l k).toNatClampNeg) then mk_metR σ nw l k else nI k)) else mk_metR σ nw l k
def mk_met (σ : Nat → Nat → Int32) (nw : Nat → Int32) (n : Nat → Nat) (l : Int32) : Int32 := mk_metR σ nw l (n 4)
abbrev mk_mts (σ : Nat → Nat → Int32) (nw : Nat → Int32) (n : Nat → Nat) (l : Int32) : Prop := ¬ (mk_met σ nw n l = (-1))
/-- what is met is an invader, or none -/
theorem mk_metR_ix (σ : Nat → Nat → Int32) (nw : Nat → Int32) (l : Int32) : ∀ k, mk_metR σ nw l k = (-1) ∨ ∃ b, b < k ∧ mk_metR σ nw l k = nI b := by
  intro k
  induction k with
  | zero => exact Or.inl rfl
  | succ k ih =>
    have ih' : mk_metR σ nw l k = (-1) ∨ ∃ b, b < k + 1 ∧ mk_metR σ nw l k = nI b := by
      rcases ih with h | ⟨b, h1, h2⟩
      · exact Or.inl h
      · exact Or.inr ⟨b, by omega, h2⟩
    show (if mk_al nw k ∧ mk_tch σ l (σ 9 k) then (if mk_metR σ nw l k = (-1) then nI k else (if mk_fit (σ 0) l (σ 9 k) ≤ mk_fit (σ 0) l (σ 9 (mk_metR σ nw l k).toNatClampNeg) then mk_metR σ nw l k else nI k)) else mk_metR σ nw l k) = (-1) ∨ _
    rw [mk_metR]
    split
    · split
      · exact Or.inr ⟨k, by omega, rfl⟩
      · split
        · exact ih'
        · exact Or.inr ⟨k, by omega, rfl⟩
    · exact ih'
theorem mk_ix_of {x : Int32} {n : Nat} (hn : n < 2147483648) (h : x = (-1) ∨ ∃ b, b < n ∧ x = nI b) (h1 : ¬ x = (-1)) : x = nI x.toNatClampNeg ∧ x.toNatClampNeg < n ∧ vp_in x n := by
  rcases h with h | ⟨b, hb, rfl⟩
  · exact absurd h h1
  · rw [nI_clamp (by omega)]
    exact ⟨rfl, hb, vp_in_nI hb (by omega)⟩
theorem vp_in_mono {x : Int32} {a b : Nat} (h : vp_in x a) (hab : a ≤ b) : vp_in x b := fun q => h (q.elim Or.inl (fun z => Or.inr (Nat.le_trans hab z)))
def mk_sumI (nw : Nat → Int32) : Nat → Int32
  | 0 => 0
  | k + 1 => mk_sumI nw k + nw (120 + k)
/-! an hour -/
def mk_gr1 (s g : Int32) : Int32 := if s ≤ 0 then s else if g ≤ 0 then s else s + (s * g / 10 + 1)
def mk_gr2 (s g : Int32) : Int32 := if 0 ≤ g then mk_gr1 s g else mk_gr1 s g / 2
def mk_gr3 (s g : Int32) : Int32 := if mk_gr2 s g ≤ 9999 then mk_gr2 s g else 9999
def mk_growR (σ : Nat → Nat → Int32) (nw : Nat → Int32) : Nat → Nat → Int32
  | 0 => nw
  | k + 1 => upd (mk_growR σ nw k) (120 + k) (mk_gr3 (mk_growR σ nw k (120 + k)) (σ 10 k))
abbrev mk_can (σ : Nat → Nat → Int32) (nw : Nat → Int32) (al : Prop) (k : Nat) : Prop := ¬ (σ 7 k = 2) ∧ ((nw k = 2 ∧ (al ∨ nw k = 5)) ∨ (¬ (nw k = 2) ∧ nw k = 5))
def mk_wakeR (σ : Nat → Nat → Int32) (n : Nat → Nat) (al : Prop) [Decidable al] (nw : Nat → Int32) : Nat → Nat → Int32
  | 0 => nw
  | k + 1 => if mk_can σ (mk_wakeR σ n al nw k) al k then (if mk_mts σ (mk_wakeR σ n al nw k) n (σ 6 k) then upd (upd (mk_wakeR σ n al nw k) k 3) (80 + k) 0 else mk_wakeR σ n al nw k) else mk_wakeR σ n al nw k
abbrev mk_alarm (σ : Nat → Nat → Int32) (nw : Nat → Int32) (n : Nat → Nat) : Prop := ¬ (mk_sumI nw (n 4) < σ 1 3)
def mk_sz1 (nw : Nat → Int32) (mo : Int32) : Nat → Int32 := upd nw 152 (nw 152 + (if mo ≤ 0 then 0 else mo))
def mk_sz2 (nw : Nat → Int32) (mo : Int32) : Nat → Int32 := upd nw 153 (nw 153 - (if 0 ≤ mo then 0 else mo))
def mk_sizes (nw : Nat → Int32) (k : Nat) (x : Int32) : Nat → Int32 := upd (mk_sz2 (mk_sz1 nw (x - nw (40 + k))) (x - nw (40 + k))) (40 + k) x
def mk_rem (nw : Nat → Int32) (k : Nat) : Nat → Int32 := mk_sizes (upd nw k 5) k 1
abbrev mk_hlp1 (σ : Nat → Nat → Int32) (nw : Nat → Int32) (n : Nat → Nat) (k : Nat) : Prop := nw k = 3 ∧ σ 7 k = 1 ∧ mk_mts σ nw n (σ 6 k)
def mk_hlpR (σ : Nat → Nat → Int32) (nw : Nat → Int32) (n : Nat → Nat) : Nat → Int32
  | 0 => 0
  | k + 1 => if nw k = 3 then (if σ 7 k = 1 then (if mk_mts σ nw n (σ 6 k) then mk_hlpR σ nw n k + 1 else mk_hlpR σ nw n k) else mk_hlpR σ nw n k) else mk_hlpR σ nw n k
def mk_hlgR (σ : Nat → Nat → Int32) (nw : Nat → Int32) (n : Nat → Nat) : Nat → Int64
  | 0 => 0
  | k + 1 => if nw k = 3 then (if σ 7 k = 1 then (if mk_mts σ nw n (σ 6 k) then mk_hlgR σ nw n k ||| (1 <<< ((nI k).toInt64 &&& 63)) else mk_hlgR σ nw n k) else mk_hlgR σ nw n k) else mk_hlgR σ nw n k
abbrev mk_stk (σ : Nat → Nat → Int32) (nw : Nat → Int32) (k : Nat) : Prop := nw k = 3 ∧ σ 7 k = 0
def mk_its (σ : Nat → Nat → Int32) (nw : Nat → Int32) (n : Nat → Nat) (k : Nat) : Int32 := if mk_stk σ nw k then mk_met σ nw n (σ 6 k) else (-1)
theorem mk_its_ix (σ : Nat → Nat → Int32) (nw : Nat → Int32) (n : Nat → Nat) (k : Nat) : mk_its σ nw n k = (-1) ∨ ∃ b, b < n 4 ∧ mk_its σ nw n k = nI b := by
  unfold mk_its
  split
  · exact mk_metR_ix σ nw _ _
  · exact Or.inl rfl
def mk_str0 (nw : Nat → Int32) (k b : Nat) : Int32 := nw (120 + b) - nw (40 + k)
def mk_str1 (nw : Nat → Int32) (k b : Nat) : Nat → Int32 := upd nw (120 + b) (if 0 ≤ mk_str0 nw k b then mk_str0 nw k b else 0)
def mk_str2 (nw : Nat → Int32) (k b : Nat) : Nat → Int32 := upd (mk_str1 nw k b) (128 + b) (if 0 < mk_str0 nw k b then mk_str1 nw k b (128 + b) else nI k)
def mk_strikeR (σ : Nat → Nat → Int32) (n : Nat → Nat) (nw : Nat → Int32) : Nat → Nat → Int32
  | 0 => nw
  | k + 1 => if mk_its σ (mk_strikeR σ n nw k) n k = (-1) then mk_strikeR σ n nw k else mk_str2 (mk_strikeR σ n nw k) k (mk_its σ (mk_strikeR σ n nw k) n k).toNatClampNeg
def mk_clmR (σ : Nat → Nat → Int32) (c : Int32) : Nat → Int32
  | 0 => 0
  | k + 1 => xk_b (¬ (mk_clmR σ c k = 0) ∨ (σ 7 k = 2 ∧ mk_tch σ (σ 6 k) c))
def mk_clm (σ : Nat → Nat → Int32) (n : Nat → Nat) (c : Int32) : Int32 := mk_clmR σ c (n 3)
theorem mk_clmR_01 (σ : Nat → Nat → Int32) (c : Int32) (k : Nat) : narrow .boolean (.int (mk_clmR σ c k)) = .int (mk_clmR σ c k) := by
  cases k with
  | zero => show narrow .boolean (.int 0) = .int 0; decide +kernel
  | succ k => exact xk_b01 _
/-- the own coat that a lock touches best -/
def mk_otR (σ : Nat → Nat → Int32) (l : Int32) : Nat → Int32
  | 0 => -1
  | j + 1 => if mk_tch σ l (σ 2 j) then (if mk_otR σ l j = (-1) then nI j else (if mk_fit (σ 0) l (σ 2 j) ≤ mk_fit (σ 0) l (σ 2 (mk_otR σ l j).toNatClampNeg) then mk_otR σ l j else nI j)) else mk_otR σ l j
theorem mk_otR_ix (σ : Nat → Nat → Int32) (l : Int32) : ∀ k, mk_otR σ l k = (-1) ∨ ∃ b, b < k ∧ mk_otR σ l k = nI b := by
  intro k
  induction k with
  | zero => exact Or.inl rfl
  | succ k ih =>
    have ih' : mk_otR σ l k = (-1) ∨ ∃ b, b < k + 1 ∧ mk_otR σ l k = nI b := by
      rcases ih with h | ⟨b, h1, h2⟩
      · exact Or.inl h
      · exact Or.inr ⟨b, by omega, h2⟩
    rw [mk_otR]
    split
    · split
      · exact Or.inr ⟨k, by omega, rfl⟩
      · split
        · exact ih'
        · exact Or.inr ⟨k, by omega, rfl⟩
    · exact ih'
def mk_oit (σ : Nat → Nat → Int32) (nw : Nat → Int32) (n : Nat → Nat) (k : Nat) : Int32 := if mk_stk σ nw k then mk_otR σ (σ 6 k) (n 0) else (-1)
theorem mk_oit_ix (σ : Nat → Nat → Int32) (nw : Nat → Int32) (n : Nat → Nat) (k : Nat) : mk_oit σ nw n k = (-1) ∨ ∃ b, b < n 0 ∧ mk_oit σ nw n k = nI b := by
  unfold mk_oit
  split
  · exact mk_otR_ix σ _ _
  · exact Or.inl rfl
def mk_hrm1 (nw : Nat → Int32) (k b : Nat) : Nat → Int32 := upd nw (144 + b) (nw (144 + b) + nw (40 + k))
def mk_harmR (σ : Nat → Nat → Int32) (n : Nat → Nat) (nw : Nat → Int32) : Nat → Nat → Int32
  | 0 => nw
  | k + 1 => if mk_oit σ (mk_harmR σ n nw k) n k = (-1) then mk_harmR σ n nw k else (if mk_clm σ n (σ 2 (mk_oit σ (mk_harmR σ n nw k) n k).toNatClampNeg) = 0 then mk_hrm1 (mk_harmR σ n nw k) k (mk_oit σ (mk_harmR σ n nw k) n k).toNatClampNeg else mk_harmR σ n nw k)
def mk_tirR (σ : Nat → Nat → Int32) (n : Nat → Nat) (nw : Nat → Int32) : Nat → Nat → Int32
  | 0 => nw
  | k + 1 => if mk_tirR σ n nw k k = 4 then (if mk_mts σ (mk_tirR σ n nw k) n (σ 6 k) then mk_tirR σ n nw k else mk_rem (mk_tirR σ n nw k) k) else mk_tirR σ n nw k
def mk_grtR (nw : Nat → Int32) : Nat → Nat → Int32
  | 0 => nw
  | k + 1 => upd (mk_grtR nw k) (136 + k) (if mk_grtR nw k (120 + k) ≤ mk_grtR nw k (136 + k) then mk_grtR nw k (136 + k) else mk_grtR nw k (120 + k))
def mk_bit (hg : Int64) (k : Nat) : Int32 := lg_cmp ((hg >>> ((nI k).toInt64 &&& 63)) &&& 1) 1
abbrev mk_isH (hc : Int32) (hg : Int64) (k : Nat) : Prop := ¬ (hc ≤ xk_b (mk_bit hg k = 0))
def mk_wk0 (nw : Nat → Int32) (k : Nat) : Nat → Int32 := upd nw (80 + k) (nw (80 + k) + 1)
def mk_more (h : Prop) [Decidable h] (x : Int32) : Int32 := (if h then 3 else 2) * x
def mk_cap (x : Int32) : Int32 := if x ≤ 999 then x else 999
def mk_wk1 (σ : Nat → Nat → Int32) (hc : Int32) (hg : Int64) (nw : Nat → Int32) (k : Nat) : Nat → Int32 := if mk_wk0 nw k (80 + k) ≤ σ 1 4 then mk_sizes (mk_wk0 nw k) k (mk_cap (mk_more (mk_isH hc hg k) (nw (40 + k)))) else upd (mk_wk0 nw k) k 4
def mk_rst (nw : Nat → Int32) (k : Nat) : Nat → Int32 := if 2 ≤ nw (40 + k) / 2 then mk_sizes nw k (nw (40 + k) / 2) else mk_rem nw k
def mk_workR (σ : Nat → Nat → Int32) (n : Nat → Nat) (hc : Int32) (hg : Int64) (nw : Nat → Int32) : Nat → Nat → Int32
  | 0 => nw
  | k + 1 => if mk_workR σ n hc hg nw k k = 3 then (if mk_mts σ (mk_workR σ n hc hg nw k) n (σ 6 k) then mk_wk1 σ hc hg (mk_workR σ n hc hg nw k) k else mk_rst (mk_workR σ n hc hg nw k) k) else mk_workR σ n hc hg nw k
def mk_work (σ : Nat → Nat → Int32) (n : Nat → Nat) (nw : Nat → Int32) : Nat → Int32 := mk_workR σ n (mk_hlpR σ nw n (n 3)) (mk_hlgR σ nw n (n 3)) nw (n 3)
theorem mk_oit_of1 {σ : Nat → Nat → Int32} {nw : Nat → Int32} {n : Nat → Nat} {k j : Nat} (h1 : n 0 ≤ j) (h2 : j ≤ n 0) (h3 : j = 0 ∨ mk_stk σ nw k) : mk_otR σ (σ 6 k) j = mk_oit σ nw n k := by
  have e : j = n 0 := by omega
  unfold mk_oit
  by_cases c : mk_stk σ nw k
  · rw [if_pos c, e]
  · rw [if_neg c, h3.resolve_right c]
    rfl
theorem mk_oit_of2 {σ : Nat → Nat → Int32} {nw : Nat → Int32} {n : Nat → Nat} {k j : Nat} (h1 : ¬ mk_stk σ nw k) (h3 : j = 0 ∨ mk_stk σ nw k) : mk_otR σ (σ 6 k) j = mk_oit σ nw n k := by
  unfold mk_oit
  rw [if_neg h1, h3.resolve_right h1]
  rfl
def mk_h1 (σ : Nat → Nat → Int32) (n : Nat → Nat) (nw : Nat → Int32) : Nat → Int32 := mk_growR σ nw (n 4)
def mk_h2 (σ : Nat → Nat → Int32) (n : Nat → Nat) (nw : Nat → Int32) : Nat → Int32 := mk_wakeR σ n (mk_alarm σ (mk_h1 σ n nw) n) (mk_h1 σ n nw) (n 3)
def mk_h3 (σ : Nat → Nat → Int32) (n : Nat → Nat) (nw : Nat → Int32) : Nat → Int32 := mk_work σ n (mk_h2 σ n nw)
def mk_h4 (σ : Nat → Nat → Int32) (n : Nat → Nat) (nw : Nat → Int32) : Nat → Int32 := mk_strikeR σ n (mk_h3 σ n nw) (n 3)
def mk_h5 (σ : Nat → Nat → Int32) (n : Nat → Nat) (nw : Nat → Int32) : Nat → Int32 := mk_harmR σ n (mk_h4 σ n nw) (n 3)
def mk_h6 (σ : Nat → Nat → Int32) (n : Nat → Nat) (nw : Nat → Int32) : Nat → Int32 := mk_tirR σ n (mk_h5 σ n nw) (n 3)
def mk_h7 (σ : Nat → Nat → Int32) (n : Nat → Nat) (nw : Nat → Int32) : Nat → Int32 := mk_grtR (mk_h6 σ n nw) (n 4)
def mk_hour (σ : Nat → Nat → Int32) (n : Nat → Nat) (nw : Nat → Int32) : Nat → Int32 := upd (mk_h7 σ n nw) 154 (mk_h7 σ n nw 154 + 1)
def mk_hours (σ : Nat → Nat → Int32) (n : Nat → Nat) (nw : Nat → Int32) : Nat → Nat → Int32
  | 0 => nw
  | k + 1 => mk_hour σ n (mk_hours σ n nw k)
def mk_sumR (nw : Nat → Int32) (x : Int32) : Nat → Int32
  | 0 => 0
  | k + 1 => mk_sumR nw x k + (if x = 2 then nw (40 + k) else (if x = 4 then (if 8 ≤ k then 0 else nw (144 + k)) else 0))
def mk_sumOf (nw : Nat → Int32) (n : Nat → Nat) (x : Int32) : Int32 := if x = 0 then nw 152 else (if x = 1 then nw 153 else (if x = 3 then mk_sumI nw (n 4) else (if x = 5 then nw 154 else mk_sumR nw x 40)))
