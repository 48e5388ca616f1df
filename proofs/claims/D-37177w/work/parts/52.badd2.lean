/-! a new invader or cell that a list takes up, seen from the system's world -/
set_option maxRecDepth 100000
section BN2
variable {A : Nat → Prop} {D : xk_G} {ad : Nat → Nat} {ρ : Nat} {σ : Nat → Nat → Int32} {nw : Nat → Int32} {n : Nat → Nat} {H H1 : Heap}
theorem b_A1q {S L E c q : Nat} (hqS : q < S) (hq : ∀ x, bk_dom n x → q ≠ ad x) (hL : bk_dom n L) (hE : 0 < c → bk_dom n E) : ¬ b_A1 S (ad L) (ad E) c q := by
  intro h
  rcases h with h | h | ⟨h0, h⟩
  · omega
  · exact hq L hL h
  · exact hq E (hE h0) h
theorem b_invdAfter (hJ : bk_ok A ad n) (hn : bk_n n) (hc : n 4 < 8) (hA : ∀ q, H.size ≤ q → A q) (hP : bP D ad (ad 100) σ nw n H) {q d' : Nat} {x y z : Int32} (hO : bO D q 4 [.int x, .int y, .int z, .int (-1), .int y] H) (hq : ∀ x, bk_dom n x → q ≠ ad x) (hAq : A q) (hF : ∀ q : Nat, q < H.size → ¬ b_A1 H.size (ad 102) (ad 105) (n 4) q → H1[q]? = H[q]?) (hd : H.size ≤ d' ∨ (0 < n 4 ∧ d' = ad 105)) (hL : bL D (ad 102) d' (n 4 + 1) (va_up (fun j => ad (110 + j)) (n 4) q) H1) : ∃ ad9 : Nat → Nat, ad9 0 = ad 0 ∧ ad9 100 = ad 100 ∧ ad9 (110 + n 4) = q ∧ bk_ok A ad9 (va_up n 4 (n 4 + 1)) ∧ bP D ad9 (ad9 100) (va_up (va_up σ 9 (upd (σ 9) (n 4) x)) 10 (upd (σ 10) (n 4) z)) (upd (upd (upd nw (120 + n 4) y) (128 + n 4) (-1)) (136 + n 4) y) (va_up n 4 (n 4 + 1)) H1 := by
  have hn' := hn
  obtain ⟨h0, h1, h2, h3, h4⟩ := hn'
  have hL1 : bk_dom n 102 ∧ ¬ bk_box 102 := ⟨by unfold bk_dom; omega, by unfold bk_box; omega⟩
  have hE1 : 0 < n 4 → bk_dom n 105 ∧ ¬ bk_box 105 := fun z => ⟨by unfold bk_dom; omega, by unfold bk_box; omega⟩
  have hrA := b_A1q (c := n 4) hO.lt hq hL1.1 (fun z => (hE1 z).1)
  have hrd : q ≠ d' := by
    rcases hd with h | ⟨h5, h6⟩
    · have := hO.lt; omega
    · rw [h6]; exact hq 105 (hE1 h5).1
  have e100 : bk_a1 ad (110 + n 4) 105 q d' 100 = ad 100 := by
    unfold bk_a1
    rw [if_neg (by omega), if_neg (by omega)]
  refine ⟨bk_a1 ad (110 + n 4) 105 q d', ?_, e100, ?_, bk_ok_a1 hJ (bP_lt hP) (by omega) (by unfold bk_box; omega) (fun x hx => ?_) (fun x hx _ => hq x hx) (Or.inr hAq) (hd.imp id (fun z => ⟨(hE1 z.1).1, z.2⟩)) ?_ hrd (by unfold bk_dom; omega), ?_⟩
  · unfold bk_a1
    rw [if_neg (by omega), if_neg (by omega)]
  · unfold bk_a1
    rw [if_pos rfl]
  · have hx : x < 10 ∨ (x = 10 ∧ 0 < va_up n 4 (n 4 + 1) 0) ∨ (x = 11 ∧ 0 < va_up n 4 (n 4 + 1) 1) ∨ (x = 12 ∧ 0 < va_up n 4 (n 4 + 1) 2) ∨ (20 ≤ x ∧ x < 20 + va_up n 4 (n 4 + 1) 0) ∨ (30 ≤ x ∧ x < 30 + va_up n 4 (n 4 + 1) 1) ∨ (40 ≤ x ∧ x < 40 + va_up n 4 (n 4 + 1) 2) ∨ (100 ≤ x ∧ x < 104) ∨ (x = 104 ∧ 0 < va_up n 4 (n 4 + 1) 3) ∨ (x = 105 ∧ 0 < va_up n 4 (n 4 + 1) 4) ∨ (110 ≤ x ∧ x < 110 + va_up n 4 (n 4 + 1) 4) ∨ (120 ≤ x ∧ x < 120 + va_up n 4 (n 4 + 1) 3) := hx
    rw [show va_up n 4 (n 4 + 1) 0 = n 0 from rfl, show va_up n 4 (n 4 + 1) 1 = n 1 from rfl, show va_up n 4 (n 4 + 1) 2 = n 2 from rfl, show va_up n 4 (n 4 + 1) 3 = n 3 from rfl, show va_up n 4 (n 4 + 1) 4 = n 4 + 1 from rfl] at hx
    unfold bk_dom
    omega
  · rcases hd with h | h
    · exact hA d' h
    · rw [h.2]; exact hJ.2 105 (hE1 h.1).1 (hE1 h.1).2
  · rw [e100]
    exact bP_invd hP hn hc (fun x hx z1 z2 => hF (ad x) (bP_lt hP x hx) (b_A1n hJ hx (bP_lt hP x hx) hL1 hE1 z1 z2)) hL (hO.kept (hF q hO.lt hrA))
theorem b_newcAfter (hJ : bk_ok A ad n) (hn : bk_n n) (hc : n 3 < 40) (hA : ∀ q, H.size ≤ q → A q) (hP : bP D ad (ad 100) σ nw n H) {q d' : Nat} {lo ki pa st sz wk : Int32} (hO : bO D q 3 [.int (nI (n 3)), .int lo, .int ki, .int pa, .int st, .int sz, .int wk] H) (hq : ∀ x, bk_dom n x → q ≠ ad x) (hAq : A q) (hF : ∀ q : Nat, q < H.size → ¬ b_A1 H.size (ad 101) (ad 104) (n 3) q → H1[q]? = H[q]?) (hd : H.size ≤ d' ∨ (0 < n 3 ∧ d' = ad 104)) (hL : bL D (ad 101) d' (n 3 + 1) (va_up (fun j => ad (120 + j)) (n 3) q) H1) : ∃ ad9 : Nat → Nat, ad9 0 = ad 0 ∧ ad9 100 = ad 100 ∧ ad9 (120 + n 3) = q ∧ bk_ok A ad9 (va_up n 3 (n 3 + 1)) ∧ bP D ad9 (ad9 100) (mk_addS σ (n 3) lo ki pa) (upd (upd (upd nw (n 3) st) (40 + n 3) sz) (80 + n 3) wk) (va_up n 3 (n 3 + 1)) H1 := by
  have hn' := hn
  obtain ⟨h0, h1, h2, h3, h4⟩ := hn'
  have hL1 : bk_dom n 101 ∧ ¬ bk_box 101 := ⟨by unfold bk_dom; omega, by unfold bk_box; omega⟩
  have hE1 : 0 < n 3 → bk_dom n 104 ∧ ¬ bk_box 104 := fun z => ⟨by unfold bk_dom; omega, by unfold bk_box; omega⟩
  have hrA := b_A1q (c := n 3) hO.lt hq hL1.1 (fun z => (hE1 z).1)
  have hrd : q ≠ d' := by
    rcases hd with h | ⟨h5, h6⟩
    · have := hO.lt; omega
    · rw [h6]; exact hq 104 (hE1 h5).1
  have e100 : bk_a1 ad (120 + n 3) 104 q d' 100 = ad 100 := by
    unfold bk_a1
    rw [if_neg (by omega), if_neg (by omega)]
  refine ⟨bk_a1 ad (120 + n 3) 104 q d', ?_, e100, ?_, bk_ok_a1 hJ (bP_lt hP) (by omega) (by unfold bk_box; omega) (fun x hx => ?_) (fun x hx _ => hq x hx) (Or.inr hAq) (hd.imp id (fun z => ⟨(hE1 z.1).1, z.2⟩)) ?_ hrd (by unfold bk_dom; omega), ?_⟩
  · unfold bk_a1
    rw [if_neg (by omega), if_neg (by omega)]
  · unfold bk_a1
    rw [if_pos rfl]
  · have hx : x < 10 ∨ (x = 10 ∧ 0 < va_up n 3 (n 3 + 1) 0) ∨ (x = 11 ∧ 0 < va_up n 3 (n 3 + 1) 1) ∨ (x = 12 ∧ 0 < va_up n 3 (n 3 + 1) 2) ∨ (20 ≤ x ∧ x < 20 + va_up n 3 (n 3 + 1) 0) ∨ (30 ≤ x ∧ x < 30 + va_up n 3 (n 3 + 1) 1) ∨ (40 ≤ x ∧ x < 40 + va_up n 3 (n 3 + 1) 2) ∨ (100 ≤ x ∧ x < 104) ∨ (x = 104 ∧ 0 < va_up n 3 (n 3 + 1) 3) ∨ (x = 105 ∧ 0 < va_up n 3 (n 3 + 1) 4) ∨ (110 ≤ x ∧ x < 110 + va_up n 3 (n 3 + 1) 4) ∨ (120 ≤ x ∧ x < 120 + va_up n 3 (n 3 + 1) 3) := hx
    rw [show va_up n 3 (n 3 + 1) 0 = n 0 from rfl, show va_up n 3 (n 3 + 1) 1 = n 1 from rfl, show va_up n 3 (n 3 + 1) 2 = n 2 from rfl, show va_up n 3 (n 3 + 1) 3 = n 3 + 1 from rfl, show va_up n 3 (n 3 + 1) 4 = n 4 from rfl] at hx
    unfold bk_dom
    omega
  · rcases hd with h | h
    · exact hA d' h
    · rw [h.2]; exact hJ.2 104 (hE1 h.1).1 (hE1 h.1).2
  · rw [e100]
    exact bP_newc hP hn hc (fun x hx z1 z2 => hF (ad x) (bP_lt hP x hx) (b_A1n hJ hx (bP_lt hP x hx) hL1 hE1 z1 z2)) hL (hO.kept (hF q hO.lt hrA))
end BN2
