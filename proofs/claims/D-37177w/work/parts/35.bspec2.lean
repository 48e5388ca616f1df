/-! what an hour does to the system, as the system has it -/
def bk_sz1 (nw : Nat → Int32) (k : Nat) (x : Int32) : Nat → Int32 := upd nw 152 (nw 152 + (if (x - nw (40 + k)) < 0 then 0 else (x - nw (40 + k))))
def bk_sz2 (nw : Nat → Int32) (k : Nat) (x : Int32) : Nat → Int32 := upd (bk_sz1 nw k x) 153 (bk_sz1 nw k x 153 + (if (bk_sz1 nw k x (40 + k) - x) < 0 then 0 else (bk_sz1 nw k x (40 + k) - x)))
def bk_sizes (nw : Nat → Int32) (k : Nat) (x : Int32) : Nat → Int32 := upd (bk_sz2 nw k x) (40 + k) x
def bk_rem (nw : Nat → Int32) (k : Nat) : Nat → Int32 := upd (bk_sizes nw k 1) k 5
abbrev bk_can (σ : Nat → Nat → Int32) (nw : Nat → Int32) (al : Prop) (k : Nat) : Prop := nw k = 5 ∨ (nw k = 2 ∧ (¬ (σ 7 k = 2) ∧ al))
def bk_actR (σ : Nat → Nat → Int32) (n : Nat → Nat) (al : Prop) [Decidable al] (nw : Nat → Int32) : Nat → Nat → Int32
  | 0 => nw
  | k + 1 => if bk_can σ (bk_actR σ n al nw k) al k then (if mk_mts σ (bk_actR σ n al nw k) n (σ 6 k) then upd (upd (bk_actR σ n al nw k) k 3) (80 + k) 0 else bk_actR σ n al nw k) else bk_actR σ n al nw k
def bk_oth (σ : Nat → Nat → Int32) (h : Int32) (k : Nat) : Int32 := if σ 7 k = 1 then h - 1 else h
def bk_pr (σ : Nat → Nat → Int32) (h : Int32) (nw : Nat → Int32) (k : Nat) : Int32 := mk_wk0 nw k (40 + k) * (if bk_oth σ h k ≤ 0 then 2 else 3)
def bk_wm (σ : Nat → Nat → Int32) (h : Int32) (nw : Nat → Int32) (k : Nat) : Int32 := if 999 < bk_pr σ h nw k then 999 else bk_pr σ h nw k
def bk_wk (σ : Nat → Nat → Int32) (h : Int32) (nw : Nat → Int32) (k : Nat) : Nat → Int32 := if mk_wk0 nw k (80 + k) ≤ σ 1 4 then bk_sizes (mk_wk0 nw k) k (bk_wm σ h nw k) else upd (mk_wk0 nw k) k 4
def bk_rst (nw : Nat → Int32) (k : Nat) : Nat → Int32 := if 2 ≤ nw (40 + k) / 2 then bk_sizes nw k (nw (40 + k) / 2) else bk_rem nw k
def bk_workR (σ : Nat → Nat → Int32) (n : Nat → Nat) (h : Int32) (nw : Nat → Int32) : Nat → Nat → Int32
  | 0 => nw
  | k + 1 => if bk_workR σ n h nw k k = 3 then (if mk_mts σ (bk_workR σ n h nw k) n (σ 6 k) then bk_wk σ h (bk_workR σ n h nw k) k else (if bk_workR σ n h nw k k = 3 then bk_rst (bk_workR σ n h nw k) k else bk_workR σ n h nw k)) else (if bk_workR σ n h nw k k = 3 then bk_rst (bk_workR σ n h nw k) k else bk_workR σ n h nw k)
def bk_work (σ : Nat → Nat → Int32) (n : Nat → Nat) (nw : Nat → Int32) : Nat → Int32 := bk_workR σ n (bk_hlpR σ nw n (n 3)) nw (n 3)
def bk_its (σ : Nat → Nat → Int32) (nw : Nat → Int32) (n : Nat → Nat) (k : Nat) : Int32 := if bk_is σ nw k 0 3 then mk_met σ nw n (σ 6 k) else (-1)
theorem bk_its_ix (σ : Nat → Nat → Int32) (nw : Nat → Int32) (n : Nat → Nat) (k : Nat) : bk_its σ nw n k = (-1) ∨ ∃ b, b < n 4 ∧ bk_its σ nw n k = nI b := by
  unfold bk_its
  split
  · exact mk_metR_ix σ nw _ _
  · exact Or.inl rfl
def bk_str1 (nw : Nat → Int32) (k b : Nat) : Nat → Int32 := upd nw (120 + b) (if (nw (120 + b) - nw (40 + k)) < 0 then 0 else (nw (120 + b) - nw (40 + k)))
def bk_str2 (nw : Nat → Int32) (k b : Nat) : Nat → Int32 := upd (bk_str1 nw k b) (128 + b) (if bk_str1 nw k b (120 + b) = 0 then nI k else (-1))
def bk_strikeR (σ : Nat → Nat → Int32) (n : Nat → Nat) (nw : Nat → Int32) : Nat → Nat → Int32
  | 0 => nw
  | k + 1 => if bk_its σ (bk_strikeR σ n nw k) n k = (-1) then bk_strikeR σ n nw k else bk_str2 (bk_strikeR σ n nw k) k (bk_its σ (bk_strikeR σ n nw k) n k).toNatClampNeg
def bk_oit (σ : Nat → Nat → Int32) (nw : Nat → Int32) (n : Nat → Nat) (k : Nat) : Int32 := if bk_is σ nw k 0 3 then mk_otR σ (σ 6 k) (n 0) else (-1)
theorem bk_oit_ix (σ : Nat → Nat → Int32) (nw : Nat → Int32) (n : Nat → Nat) (k : Nat) : bk_oit σ nw n k = (-1) ∨ ∃ b, b < n 0 ∧ bk_oit σ nw n k = nI b := by
  unfold bk_oit
  split
  · exact mk_otR_ix σ _ _
  · exact Or.inl rfl
def bk_harmR (σ : Nat → Nat → Int32) (n : Nat → Nat) (nw : Nat → Int32) : Nat → Nat → Int32
  | 0 => nw
  | k + 1 => if bk_oit σ (bk_harmR σ n nw k) n k = (-1) then bk_harmR σ n nw k else (if bk_clmR σ (bk_harmR σ n nw k) (σ 2 (bk_oit σ (bk_harmR σ n nw k) n k).toNatClampNeg) (n 3) = 0 then mk_hrm1 (bk_harmR σ n nw k) k (bk_oit σ (bk_harmR σ n nw k) n k).toNatClampNeg else bk_harmR σ n nw k)
def bk_gx (x g : Int32) : Int32 := if 9999 < ((x + ((x * g) / 10)) + 1) then 9999 else ((x + ((x * g) / 10)) + 1)
def bk_gr1 (nw : Nat → Int32) (g : Int32) (k : Nat) : Nat → Int32 := if nw (120 + k) ≤ 0 then nw else (if g ≤ 0 then nw else upd nw (120 + k) (bk_gx (nw (120 + k)) g))
def bk_gr2 (nw : Nat → Int32) (g : Int32) (k : Nat) : Nat → Int32 := upd (bk_gr1 nw g k) (120 + k) (if 0 ≤ g then bk_gr1 nw g k (120 + k) else bk_gr1 nw g k (120 + k) / 2)
def bk_growR (σ : Nat → Nat → Int32) (nw : Nat → Int32) : Nat → Nat → Int32
  | 0 => nw
  | k + 1 => bk_gr2 (bk_growR σ nw k) (σ 10 k) k
def bk_tirR (σ : Nat → Nat → Int32) (n : Nat → Nat) (nw : Nat → Int32) : Nat → Nat → Int32
  | 0 => nw
  | k + 1 => if bk_tirR σ n nw k k = 4 then (if mk_mts σ (bk_tirR σ n nw k) n (σ 6 k) then bk_tirR σ n nw k else bk_rem (bk_tirR σ n nw k) k) else bk_tirR σ n nw k
def bk_h1 (σ : Nat → Nat → Int32) (n : Nat → Nat) (nw : Nat → Int32) : Nat → Int32 := bk_growR σ nw (n 4)
def bk_h2 (σ : Nat → Nat → Int32) (n : Nat → Nat) (nw : Nat → Int32) : Nat → Int32 := bk_actR σ n (mk_alarm σ (bk_h1 σ n nw) n) (bk_h1 σ n nw) (n 3)
def bk_h3 (σ : Nat → Nat → Int32) (n : Nat → Nat) (nw : Nat → Int32) : Nat → Int32 := bk_work σ n (bk_h2 σ n nw)
def bk_h4 (σ : Nat → Nat → Int32) (n : Nat → Nat) (nw : Nat → Int32) : Nat → Int32 := bk_strikeR σ n (bk_h3 σ n nw) (n 3)
def bk_h5 (σ : Nat → Nat → Int32) (n : Nat → Nat) (nw : Nat → Int32) : Nat → Int32 := bk_harmR σ n (bk_h4 σ n nw) (n 3)
def bk_h6 (σ : Nat → Nat → Int32) (n : Nat → Nat) (nw : Nat → Int32) : Nat → Int32 := bk_tirR σ n (bk_h5 σ n nw) (n 3)
def bk_h7 (σ : Nat → Nat → Int32) (n : Nat → Nat) (nw : Nat → Int32) : Nat → Int32 := mk_grtR (bk_h6 σ n nw) (n 4)
def bk_hour (σ : Nat → Nat → Int32) (n : Nat → Nat) (nw : Nat → Int32) : Nat → Int32 := upd (bk_h7 σ n nw) 154 (bk_h7 σ n nw 154 + 1)
def bk_hours (σ : Nat → Nat → Int32) (n : Nat → Nat) (nw : Nat → Int32) : Nat → Nat → Int32
  | 0 => nw
  | k + 1 => bk_hour σ n (bk_hours σ n nw k)
