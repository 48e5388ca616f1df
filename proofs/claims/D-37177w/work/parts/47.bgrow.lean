/-! the system's world when it grows -/
set_option maxRecDepth 100000
section BG
variable {A : Nat → Prop} {D : xk_G} {ad ad' : Nat → Nat} {ρ : Nat} {σ σ' : Nat → Nat → Int32} {nw nw' : Nat → Int32} {n n' : Nat → Nat} {H H1 : Heap}
theorem bL.mv {q q' d d' c : Nat} {g g' : Nat → Nat} (h : bL D q d c g H) (hq : q' = q) (hd : 0 < c → d' = d) (hg : ∀ j, j < c → g' j = g j) (k1 : H1[q]? = H[q]?) (k2 : 0 < c → H1[d]? = H[d]?) : bL D q' d' c g' H1 := by
  subst hq
  obtain ⟨mc, a, h1, h2⟩ := h.kept k1 k2
  refine ⟨mc, a, h1, ?_⟩
  rcases h2 with h2 | ⟨h3, h4, cap, f, h5, h6, h7, h8, h9⟩
  · exact Or.inl h2
  · refine Or.inr ⟨h3, h4.trans (hd h3).symm, cap, f, h5, h6, h7, by rw [hd h3]; exact h8, fun j hj => by rw [hg j hj]; exact h9 j hj⟩
/-- a list of boxes and what they hold -/
def bG (D : xk_G) (q d c : Nat) (g : Nat → Nat) (v : Nat → Int32) (H : Heap) : Prop := bL D q d c g H ∧ ∀ j, j < c → bX D (g j) (v j) H
theorem bG.mv {q q' d d' c : Nat} {g g' : Nat → Nat} {v v' : Nat → Int32} (h : bG D q d c g v H) (hq : q' = q) (hd : 0 < c → d' = d) (hg : ∀ j, j < c → g' j = g j) (hv : ∀ j, j < c → v' j = v j) (k1 : H1[q]? = H[q]?) (k2 : 0 < c → H1[d]? = H[d]?) (k3 : ∀ j, j < c → H1[g j]? = H[g j]?) : bG D q' d' c g' v' H1 :=
  ⟨h.1.mv hq hd hg k1 k2, fun j hj => by rw [hg j hj, hv j hj]; exact (h.2 j hj).kept (k3 j hj)⟩
theorem bG.add {q q' d d' d1 c r : Nat} {g g' : Nat → Nat} {v v' : Nat → Int32} {z : Int32} (h : bG D q d c g v H) (hL : bL D q d1 (c + 1) (va_up g c r) H1) (hX : bX D r z H1) (hq : q' = q) (hd : d' = d1) (hg : ∀ j, j < c → g' j = g j) (hg2 : g' c = r) (hv : ∀ j, j < c → v' j = v j) (hv2 : v' c = z) (k3 : ∀ j, j < c → H1[g j]? = H[g j]?) : bG D q' d' (c + 1) g' v' H1 := by
  refine ⟨hL.mv hq (fun _ => hd) (fun j hj => ?_) rfl (fun _ => rfl), fun j hj => ?_⟩
  · unfold va_up
    by_cases e : j = c
    · rw [if_pos e, e, hg2]
    · rw [if_neg e]
      exact hg j (by omega)
  · by_cases e : j = c
    · rw [e, hg2, hv2]
      exact hX
    · rw [hg j (by omega), hv j (by omega)]
      exact (h.2 j (by omega)).kept (k3 j (by omega))
theorem bE2.gs (h : bE2 D ad σ n H) : bG D (ad 7) (ad 10) (n 0) (fun j => ad (20 + j)) (σ 2) H ∧ bG D (ad 8) (ad 11) (n 1) (fun j => ad (30 + j)) (fun j => σ 3 j + 4 * σ 4 j) H ∧ bG D (ad 9) (ad 12) (n 2) (fun j => ad (40 + j)) (σ 5) H :=
  ⟨⟨h.1, h.2.2.2.1⟩, ⟨h.2.1, h.2.2.2.2.1⟩, ⟨h.2.2.1, h.2.2.2.2.2⟩⟩
theorem bE2.of (h1 : bG D (ad 7) (ad 10) (n 0) (fun j => ad (20 + j)) (σ 2) H) (h2 : bG D (ad 8) (ad 11) (n 1) (fun j => ad (30 + j)) (fun j => σ 3 j + 4 * σ 4 j) H) (h3 : bG D (ad 9) (ad 12) (n 2) (fun j => ad (40 + j)) (σ 5) H) : bE2 D ad σ n H := ⟨h1.1, h2.1, h3.1, h1.2, h2.2, h3.2⟩
theorem bE1.mv (h : bE1 D ad ρ σ H) (e : ∀ x, x < 10 → ad' x = ad x) (e0 : σ' 0 = σ 0) (e1 : σ' 1 = σ 1) (k : ∀ x, x < 7 → H1[ad x]? = H[ad x]?) : bE1 D ad' ρ σ' H1 := by
  obtain ⟨a, b, c, d⟩ := h.kept k
  refine ⟨?_, ?_, fun i hi => ?_, ?_⟩
  · rw [e 0 (by omega), e 1 (by omega), e 6 (by omega), e 7 (by omega), e 8 (by omega), e 9 (by omega)]
    exact a
  · rw [e 1 (by omega)]
    exact b.same (fun j hj => by rw [e (2 + j) (by omega)])
  · rw [e (2 + i) (by omega), e0]
    exact c i hi
  · rw [e 6 (by omega), e1]
    exact d
theorem bI1.mv (h : bI1 D ad nw H) (e : ∀ x, x = 0 ∨ (100 ≤ x ∧ x < 104) → ad' x = ad x) (k1 : H1[ad 100]? = H[ad 100]?) (k2 : H1[ad 103]? = H[ad 103]?) : bI1 D ad' nw H1 := by
  obtain ⟨a, b⟩ := h.to k1 k2 (fun i _ _ => rfl)
  refine ⟨?_, ?_⟩
  · rw [e 100 (by omega), e 101 (by omega), e 102 (by omega), e 103 (by omega), e 0 (by omega)]
    exact a
  · rw [e 103 (by omega)]
    exact b
theorem bI2.mv (h : bI2 D ad σ nw n H) (e : ∀ x, x = 102 ∨ (x = 105 ∧ 0 < n 4) ∨ (110 ≤ x ∧ x < 110 + n 4) → ad' x = ad x ∧ H1[ad x]? = H[ad x]?) (e9 : σ' 9 = σ 9) (e10 : σ' 10 = σ 10) (hn : n' 4 = n 4) : bI2 D ad' σ' nw n' H1 := by
  obtain ⟨a, b⟩ := h
  unfold bI2
  rw [hn]
  refine ⟨a.mv (e 102 (by omega)).1 (fun z => (e 105 (by omega)).1) (fun j hj => (e (110 + j) (by omega)).1) (e 102 (by omega)).2 (fun z => (e 105 (by omega)).2), fun j hj => ?_⟩
  rw [(e (110 + j) (by omega)).1, e9, e10]
  exact (b j hj).kept (e (110 + j) (by omega)).2
theorem bI3.mv (h : bI3 D ad σ nw n H) (e : ∀ x, x = 101 ∨ (x = 104 ∧ 0 < n 3) ∨ (120 ≤ x ∧ x < 120 + n 3) → ad' x = ad x ∧ H1[ad x]? = H[ad x]?) (e6 : σ' 6 = σ 6) (e7 : σ' 7 = σ 7) (e8 : σ' 8 = σ 8) (hn : n' 3 = n 3) : bI3 D ad' σ' nw n' H1 := by
  obtain ⟨a, b⟩ := h
  unfold bI3
  rw [hn]
  refine ⟨a.mv (e 101 (by omega)).1 (fun z => (e 104 (by omega)).1) (fun j hj => (e (120 + j) (by omega)).1) (e 101 (by omega)).2 (fun z => (e 104 (by omega)).2), fun j hj => ?_⟩
  rw [(e (120 + j) (by omega)).1, e6, e7, e8]
  exact (b j hj).kept (e (120 + j) (by omega)).2
theorem bL.ltd {q d c : Nat} {g : Nat → Nat} (h : bL D q d c g H) (hc : 0 < c) : d < H.size := by
  obtain ⟨mc, a, h1, h2⟩ := h
  rcases h2 with h2 | ⟨h3, h4, cap, f, h5, h6, h7, h8, h9⟩
  · omega
  · exact h8.lt
theorem bP_lt (h : bP D ad ρ σ nw n H) (x : Nat) (hx : bk_dom n x) : ad x < H.size := by
  obtain ⟨⟨a1, a2, a3, a4⟩, ⟨b1, b2, b3, b4, b5, b6⟩, ⟨c1, c2⟩, ⟨d1, d2⟩, ⟨e1, e2⟩⟩ := h
  have r : ∀ {y : Nat}, x = y → ad y < H.size → ad x < H.size := fun e h => by rw [e]; exact h
  unfold bk_dom at hx
  rcases hx with hx | ⟨hx, hc⟩ | ⟨hx, hc⟩ | ⟨hx, hc⟩ | ⟨hx, hc⟩ | ⟨hx, hc⟩ | ⟨hx, hc⟩ | ⟨hx, hc⟩ | ⟨hx, hc⟩ | ⟨hx, hc⟩ | ⟨hx, hc⟩ | ⟨hx, hc⟩
  · rcases (show x = 0 ∨ x = 1 ∨ (2 ≤ x ∧ x < 6) ∨ x = 6 ∨ x = 7 ∨ x = 8 ∨ x = 9 by omega) with e | e | e | e | e | e | e
    · exact r e a1.lt
    · exact r e a2.lt
    · exact r (y := 2 + (x - 2)) (by omega) (a3 (x - 2) (by omega)).lt
    · exact r e a4.lt
    · exact r e b1.lt
    · exact r e b2.lt
    · exact r e b3.lt
  · exact r hx (b1.ltd hc)
  · exact r hx (b2.ltd hc)
  · exact r hx (b3.ltd hc)
  · exact r (y := 20 + (x - 20)) (by omega) (b4 (x - 20) (by omega)).lt
  · exact r (y := 30 + (x - 30)) (by omega) (b5 (x - 30) (by omega)).lt
  · exact r (y := 40 + (x - 40)) (by omega) (b6 (x - 40) (by omega)).lt
  · rcases (show x = 100 ∨ x = 101 ∨ x = 102 ∨ x = 103 by omega) with e | e | e | e
    · exact r e c1.lt
    · exact r e e1.lt
    · exact r e d1.lt
    · exact r e c2.lt
  · exact r hx (e1.ltd hc)
  · exact r hx (d1.ltd hc)
  · exact r (y := 110 + (x - 110)) (by omega) (d2 (x - 110) (by omega)).lt
  · exact r (y := 120 + (x - 120)) (by omega) (e2 (x - 120) (by omega)).lt
theorem bk_ok_new (hJ : bk_ok A ad n) (hc : ∀ x, bk_dom n' x → (bk_dom n x ∧ ad' x = ad x) ∨ (∀ y, bk_dom n' y → ad' x = ad' y → x = y ∨ (bk_box x ∧ bk_box y))) (hA : ∀ x, bk_dom n' x → ¬ bk_box x → (bk_dom n x ∧ ad' x = ad x) ∨ A (ad' x)) : bk_ok A ad' n' := by
  refine ⟨fun x y hx hy e => ?_, fun x hx hb => ?_⟩
  · rcases hc x hx with ⟨h1, h2⟩ | h
    · rcases hc y hy with ⟨h3, h4⟩ | h'
      · exact hJ.1 x y h1 h3 (by rw [← h2, ← h4]; exact e)
      · rcases h' x hx e.symm with h5 | h5
        · exact Or.inl h5.symm
        · exact Or.inr ⟨h5.2, h5.1⟩
    · exact h y hy e
  · rcases hA x hx hb with ⟨h1, h2⟩ | h
    · rw [h2]
      exact hJ.2 x h1 hb
    · exact h
end BG
