/-! a list's add, seen from the system's world -/
set_option maxRecDepth 100000
section BM
variable {A : Nat → Prop} {D : xk_G} {ad ad' : Nat → Nat} {ρ : Nat} {σ σ' : Nat → Nat → Int32} {nw nw' : Nat → Int32} {n n' : Nat → Nat} {H H1 H2 : Heap}
theorem bP_keep (hP : bP D ad ρ σ nw n H) (k : ∀ x, bk_dom n x → H1[ad x]? = H[ad x]?) : bP D ad ρ σ nw n H1 := by
  obtain ⟨g1, g2, g3⟩ := hP.2.1.gs
  refine ⟨hP.1.mv (fun x hx => rfl) rfl rfl (fun x hx => k x (by unfold bk_dom; omega)), bE2.of ?_ ?_ ?_, hP.2.2.1.mv (fun x hx => rfl) (k 100 (by unfold bk_dom; omega)) (k 103 (by unfold bk_dom; omega)), hP.2.2.2.1.mv (fun x hx => ⟨rfl, k x (by unfold bk_dom; omega)⟩) rfl rfl rfl, hP.2.2.2.2.mv (fun x hx => ⟨rfl, k x (by unfold bk_dom; omega)⟩) rfl rfl rfl rfl⟩
  · exact g1.mv rfl (fun _ => rfl) (fun j hj => rfl) (fun j hj => rfl) (k 7 (by unfold bk_dom; omega)) (fun z => k 10 (by unfold bk_dom; omega)) (fun j hj => k (20 + j) (by unfold bk_dom; omega))
  · exact g2.mv rfl (fun _ => rfl) (fun j hj => rfl) (fun j hj => rfl) (k 8 (by unfold bk_dom; omega)) (fun z => k 11 (by unfold bk_dom; omega)) (fun j hj => k (30 + j) (by unfold bk_dom; omega))
  · exact g3.mv rfl (fun _ => rfl) (fun j hj => rfl) (fun j hj => rfl) (k 9 (by unfold bk_dom; omega)) (fun z => k 12 (by unfold bk_dom; omega)) (fun j hj => k (40 + j) (by unfold bk_dom; omega))
theorem bX.el {r : Nat} {z : Int32} (h : bX D r z H) : xe_El D 6 r H := by
  obtain ⟨cell, h1, h2, h3, h4, h5⟩ := h
  exact ⟨cell, h1, h4, h2⟩
theorem bO.el {r ci : Nat} {fs : List Value} (h : bO D r ci fs H) : xe_El D ci r H := by
  obtain ⟨r, h1, cell, q1, q2, q3, q4⟩ := h
  exact ⟨cell, q1, by rw [q3]; rfl, q2⟩
/-- a box is none of the system's own cells -/
theorem b_boxr {r : Nat} (hJ : bk_ok A ad n) (hP : bP D ad ρ σ nw n H) (hr : H.size ≤ r ∨ ¬ A r) : ∀ x, bk_dom n x → ¬ bk_box x → r ≠ ad x := by
  intro x hx hb e
  rcases hr with h | h
  · have := bP_lt hP x hx
    omega
  · exact h (by rw [e]; exact hJ.2 x hx hb)
/-- what an add to the list L (its places at E) may touch -/
def b_A1 (S q e : Nat) (c : Nat) : Nat → Prop := fun x => S ≤ x ∨ x = q ∨ (0 < c ∧ x = e)
theorem b_A1s {S L E c : Nat} (hJ : bk_ok A ad n) (hA : ∀ q, S ≤ q → A q) (hL : bk_dom n L ∧ ¬ bk_box L) (hE : 0 < c → bk_dom n E ∧ ¬ bk_box E) : ∀ q, b_A1 S (ad L) (ad E) c q → A q := by
  intro q h
  rcases h with h | h | ⟨h0, h⟩
  · exact hA q h
  · rw [h]; exact hJ.2 L hL.1 hL.2
  · rw [h]; exact hJ.2 E (hE h0).1 (hE h0).2
theorem b_A1n {S L E c x : Nat} (hJ : bk_ok A ad n) (hx : bk_dom n x) (hlt : ad x < S) (hL : bk_dom n L ∧ ¬ bk_box L) (hE : 0 < c → bk_dom n E ∧ ¬ bk_box E) (h1 : x ≠ L) (h2 : x ≠ E) : ¬ b_A1 S (ad L) (ad E) c (ad x) := by
  intro h
  rcases h with h | h | ⟨h0, h⟩
  · omega
  · rcases hJ.1 x L hx hL.1 h with h | h
    · exact h1 h
    · exact hL.2 h.2
  · rcases hJ.1 x E hx (hE h0).1 h with h | h
    · exact h2 h
    · exact (hE h0).2 h.2
theorem b_A1r {S L E c r : Nat} (hrS : r < S) (hr : ∀ x, bk_dom n x → ¬ bk_box x → r ≠ ad x) (hL : bk_dom n L ∧ ¬ bk_box L) (hE : 0 < c → bk_dom n E ∧ ¬ bk_box E) : ¬ b_A1 S (ad L) (ad E) c r := by
  intro h
  rcases h with h | h | ⟨h0, h⟩
  · omega
  · exact hr L hL.1 hL.2 h
  · exact hr E (hE h0).1 (hE h0).2 h
theorem b_ownAfter (hJ : bk_ok A ad n) (hn : bk_n n) (hc : n 0 < 8) (hA : ∀ q, H.size ≤ q → A q) (hP : bP D ad (ad 100) σ nw n H) {r d' : Nat} {z : Int32} (hX : bX D r (z) H) (hr : ∀ x, bk_dom n x → ¬ bk_box x → r ≠ ad x) (hF : ∀ q : Nat, q < H.size → ¬ b_A1 H.size (ad 7) (ad 10) (n 0) q → H1[q]? = H[q]?) (hd : H.size ≤ d' ∨ (0 < n 0 ∧ d' = ad 10)) (hL : bL D (ad 7) d' (n 0 + 1) (va_up (fun j => ad (20 + j)) (n 0) r) H1) : ∃ ad9 : Nat → Nat, ad9 0 = ad 0 ∧ bk_ok A ad9 (va_up n 0 (n 0 + 1)) ∧ bP D ad9 (ad9 100) (va_up σ 2 (upd (σ 2) (n 0) z)) nw (va_up n 0 (n 0 + 1)) H1 := by
  have hn' := hn
  obtain ⟨h0, h1, h2, h3, h4⟩ := hn'
  have hL1 : bk_dom n 7 ∧ ¬ bk_box 7 := ⟨by unfold bk_dom; omega, by unfold bk_box; omega⟩
  have hE1 : 0 < n 0 → bk_dom n 10 ∧ ¬ bk_box 10 := fun z => ⟨by unfold bk_dom; omega, by unfold bk_box; omega⟩
  have hrA := b_A1r (c := n 0) hX.lt hr hL1 hE1
  have hrd : r ≠ d' := by
    rcases hd with h | ⟨h5, h6⟩
    · have := hX.lt; omega
    · rw [h6]; exact hr 10 (hE1 h5).1 (hE1 h5).2
  refine ⟨bk_a1 ad (20 + n 0) 10 r d', ?_, bk_ok_a1 hJ (bP_lt hP) (by omega) (by unfold bk_box; omega) (fun x hx => ?_) (fun x hx hb => hr x hx (hb.resolve_right (fun z => z (by unfold bk_box; omega)))) (Or.inl (by unfold bk_box; omega)) (hd.imp id (fun z => ⟨(hE1 z.1).1, z.2⟩)) ?_ hrd (by unfold bk_dom; omega), ?_⟩
  · unfold bk_a1
    rw [if_neg (by omega), if_neg (by omega)]
  · have hx : x < 10 ∨ (x = 10 ∧ 0 < va_up n 0 (n 0 + 1) 0) ∨ (x = 11 ∧ 0 < va_up n 0 (n 0 + 1) 1) ∨ (x = 12 ∧ 0 < va_up n 0 (n 0 + 1) 2) ∨ (20 ≤ x ∧ x < 20 + va_up n 0 (n 0 + 1) 0) ∨ (30 ≤ x ∧ x < 30 + va_up n 0 (n 0 + 1) 1) ∨ (40 ≤ x ∧ x < 40 + va_up n 0 (n 0 + 1) 2) ∨ (100 ≤ x ∧ x < 104) ∨ (x = 104 ∧ 0 < va_up n 0 (n 0 + 1) 3) ∨ (x = 105 ∧ 0 < va_up n 0 (n 0 + 1) 4) ∨ (110 ≤ x ∧ x < 110 + va_up n 0 (n 0 + 1) 4) ∨ (120 ≤ x ∧ x < 120 + va_up n 0 (n 0 + 1) 3) := hx
    rw [show va_up n 0 (n 0 + 1) 0 = n 0 + 1 from rfl, show va_up n 0 (n 0 + 1) 1 = n 1 from rfl, show va_up n 0 (n 0 + 1) 2 = n 2 from rfl, show va_up n 0 (n 0 + 1) 3 = n 3 from rfl, show va_up n 0 (n 0 + 1) 4 = n 4 from rfl] at hx
    unfold bk_dom
    omega
  · rcases hd with h | h
    · exact hA d' h
    · rw [h.2]; exact hJ.2 10 (hE1 h.1).1 (hE1 h.1).2
  · have e100 : bk_a1 ad (20 + n 0) 10 r d' 100 = ad 100 := by
      unfold bk_a1
      rw [if_neg (by omega), if_neg (by omega)]
    rw [e100]
    exact bP_own hP hn hc (fun x hx z1 z2 => hF (ad x) (bP_lt hP x hx) (b_A1n hJ hx (bP_lt hP x hx) hL1 hE1 z1 z2)) hL (hX.kept (hF r hX.lt hrA))
theorem b_segAfter (hJ : bk_ok A ad n) (hn : bk_n n) (hc : n 1 < 4) (hA : ∀ q, H.size ≤ q → A q) (hP : bP D ad (ad 100) σ nw n H) {r d' : Nat} {x y : Int32} (hX : bX D r (x + 4 * y) H) (hr : ∀ x, bk_dom n x → ¬ bk_box x → r ≠ ad x) (hF : ∀ q : Nat, q < H.size → ¬ b_A1 H.size (ad 8) (ad 11) (n 1) q → H1[q]? = H[q]?) (hd : H.size ≤ d' ∨ (0 < n 1 ∧ d' = ad 11)) (hL : bL D (ad 8) d' (n 1 + 1) (va_up (fun j => ad (30 + j)) (n 1) r) H1) : ∃ ad9 : Nat → Nat, ad9 0 = ad 0 ∧ bk_ok A ad9 (va_up n 1 (n 1 + 1)) ∧ bP D ad9 (ad9 100) (va_up (va_up σ 3 (upd (σ 3) (n 1) x)) 4 (upd (σ 4) (n 1) y)) nw (va_up n 1 (n 1 + 1)) H1 := by
  have hn' := hn
  obtain ⟨h0, h1, h2, h3, h4⟩ := hn'
  have hL1 : bk_dom n 8 ∧ ¬ bk_box 8 := ⟨by unfold bk_dom; omega, by unfold bk_box; omega⟩
  have hE1 : 0 < n 1 → bk_dom n 11 ∧ ¬ bk_box 11 := fun z => ⟨by unfold bk_dom; omega, by unfold bk_box; omega⟩
  have hrA := b_A1r (c := n 1) hX.lt hr hL1 hE1
  have hrd : r ≠ d' := by
    rcases hd with h | ⟨h5, h6⟩
    · have := hX.lt; omega
    · rw [h6]; exact hr 11 (hE1 h5).1 (hE1 h5).2
  refine ⟨bk_a1 ad (30 + n 1) 11 r d', ?_, bk_ok_a1 hJ (bP_lt hP) (by omega) (by unfold bk_box; omega) (fun x hx => ?_) (fun x hx hb => hr x hx (hb.resolve_right (fun z => z (by unfold bk_box; omega)))) (Or.inl (by unfold bk_box; omega)) (hd.imp id (fun z => ⟨(hE1 z.1).1, z.2⟩)) ?_ hrd (by unfold bk_dom; omega), ?_⟩
  · unfold bk_a1
    rw [if_neg (by omega), if_neg (by omega)]
  · have hx : x < 10 ∨ (x = 10 ∧ 0 < va_up n 1 (n 1 + 1) 0) ∨ (x = 11 ∧ 0 < va_up n 1 (n 1 + 1) 1) ∨ (x = 12 ∧ 0 < va_up n 1 (n 1 + 1) 2) ∨ (20 ≤ x ∧ x < 20 + va_up n 1 (n 1 + 1) 0) ∨ (30 ≤ x ∧ x < 30 + va_up n 1 (n 1 + 1) 1) ∨ (40 ≤ x ∧ x < 40 + va_up n 1 (n 1 + 1) 2) ∨ (100 ≤ x ∧ x < 104) ∨ (x = 104 ∧ 0 < va_up n 1 (n 1 + 1) 3) ∨ (x = 105 ∧ 0 < va_up n 1 (n 1 + 1) 4) ∨ (110 ≤ x ∧ x < 110 + va_up n 1 (n 1 + 1) 4) ∨ (120 ≤ x ∧ x < 120 + va_up n 1 (n 1 + 1) 3) := hx
    rw [show va_up n 1 (n 1 + 1) 0 = n 0 from rfl, show va_up n 1 (n 1 + 1) 1 = n 1 + 1 from rfl, show va_up n 1 (n 1 + 1) 2 = n 2 from rfl, show va_up n 1 (n 1 + 1) 3 = n 3 from rfl, show va_up n 1 (n 1 + 1) 4 = n 4 from rfl] at hx
    unfold bk_dom
    omega
  · rcases hd with h | h
    · exact hA d' h
    · rw [h.2]; exact hJ.2 11 (hE1 h.1).1 (hE1 h.1).2
  · have e100 : bk_a1 ad (30 + n 1) 11 r d' 100 = ad 100 := by
      unfold bk_a1
      rw [if_neg (by omega), if_neg (by omega)]
    rw [e100]
    exact bP_seg hP hn hc (fun x hx z1 z2 => hF (ad x) (bP_lt hP x hx) (b_A1n hJ hx (bP_lt hP x hx) hL1 hE1 z1 z2)) hL (hX.kept (hF r hX.lt hrA))
theorem b_jointAfter (hJ : bk_ok A ad n) (hn : bk_n n) (hc : n 2 < 4) (hA : ∀ q, H.size ≤ q → A q) (hP : bP D ad (ad 100) σ nw n H) {r d' : Nat} {z : Int32} (hX : bX D r (z) H) (hr : ∀ x, bk_dom n x → ¬ bk_box x → r ≠ ad x) (hF : ∀ q : Nat, q < H.size → ¬ b_A1 H.size (ad 9) (ad 12) (n 2) q → H1[q]? = H[q]?) (hd : H.size ≤ d' ∨ (0 < n 2 ∧ d' = ad 12)) (hL : bL D (ad 9) d' (n 2 + 1) (va_up (fun j => ad (40 + j)) (n 2) r) H1) : ∃ ad9 : Nat → Nat, ad9 0 = ad 0 ∧ bk_ok A ad9 (va_up n 2 (n 2 + 1)) ∧ bP D ad9 (ad9 100) (va_up σ 5 (upd (σ 5) (n 2) z)) nw (va_up n 2 (n 2 + 1)) H1 := by
  have hn' := hn
  obtain ⟨h0, h1, h2, h3, h4⟩ := hn'
  have hL1 : bk_dom n 9 ∧ ¬ bk_box 9 := ⟨by unfold bk_dom; omega, by unfold bk_box; omega⟩
  have hE1 : 0 < n 2 → bk_dom n 12 ∧ ¬ bk_box 12 := fun z => ⟨by unfold bk_dom; omega, by unfold bk_box; omega⟩
  have hrA := b_A1r (c := n 2) hX.lt hr hL1 hE1
  have hrd : r ≠ d' := by
    rcases hd with h | ⟨h5, h6⟩
    · have := hX.lt; omega
    · rw [h6]; exact hr 12 (hE1 h5).1 (hE1 h5).2
  refine ⟨bk_a1 ad (40 + n 2) 12 r d', ?_, bk_ok_a1 hJ (bP_lt hP) (by omega) (by unfold bk_box; omega) (fun x hx => ?_) (fun x hx hb => hr x hx (hb.resolve_right (fun z => z (by unfold bk_box; omega)))) (Or.inl (by unfold bk_box; omega)) (hd.imp id (fun z => ⟨(hE1 z.1).1, z.2⟩)) ?_ hrd (by unfold bk_dom; omega), ?_⟩
  · unfold bk_a1
    rw [if_neg (by omega), if_neg (by omega)]
  · have hx : x < 10 ∨ (x = 10 ∧ 0 < va_up n 2 (n 2 + 1) 0) ∨ (x = 11 ∧ 0 < va_up n 2 (n 2 + 1) 1) ∨ (x = 12 ∧ 0 < va_up n 2 (n 2 + 1) 2) ∨ (20 ≤ x ∧ x < 20 + va_up n 2 (n 2 + 1) 0) ∨ (30 ≤ x ∧ x < 30 + va_up n 2 (n 2 + 1) 1) ∨ (40 ≤ x ∧ x < 40 + va_up n 2 (n 2 + 1) 2) ∨ (100 ≤ x ∧ x < 104) ∨ (x = 104 ∧ 0 < va_up n 2 (n 2 + 1) 3) ∨ (x = 105 ∧ 0 < va_up n 2 (n 2 + 1) 4) ∨ (110 ≤ x ∧ x < 110 + va_up n 2 (n 2 + 1) 4) ∨ (120 ≤ x ∧ x < 120 + va_up n 2 (n 2 + 1) 3) := hx
    rw [show va_up n 2 (n 2 + 1) 0 = n 0 from rfl, show va_up n 2 (n 2 + 1) 1 = n 1 from rfl, show va_up n 2 (n 2 + 1) 2 = n 2 + 1 from rfl, show va_up n 2 (n 2 + 1) 3 = n 3 from rfl, show va_up n 2 (n 2 + 1) 4 = n 4 from rfl] at hx
    unfold bk_dom
    omega
  · rcases hd with h | h
    · exact hA d' h
    · rw [h.2]; exact hJ.2 12 (hE1 h.1).1 (hE1 h.1).2
  · have e100 : bk_a1 ad (40 + n 2) 12 r d' 100 = ad 100 := by
      unfold bk_a1
      rw [if_neg (by omega), if_neg (by omega)]
    rw [e100]
    exact bP_joint hP hn hc (fun x hx z1 z2 => hF (ad x) (bP_lt hP x hx) (b_A1n hJ hx (bP_lt hP x hx) hL1 hE1 z1 z2)) hL (hX.kept (hF r hX.lt hrA))
end BM
