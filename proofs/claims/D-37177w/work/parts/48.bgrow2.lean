/-! the system's world with one more own, segment, joint, invader, cell -/
set_option maxRecDepth 100000
def bk_a1 (ad : Nat → Nat) (i e r d : Nat) : Nat → Nat := fun x => if x = i then r else if x = e then d else ad x
section BH
variable {A : Nat → Prop} {D : xk_G} {ad ad' : Nat → Nat} {ρ : Nat} {σ σ' : Nat → Nat → Int32} {nw nw' : Nat → Int32} {n n' : Nat → Nat} {H H1 : Heap}
theorem bk_ok_a1 (hJ : bk_ok A ad n) (hlt : ∀ x, bk_dom n x → ad x < H.size) {i e r d' : Nat} (hie : i ≠ e) (he : ¬ bk_box e) (hdom : ∀ x, bk_dom n' x → bk_dom n x ∨ x = i ∨ x = e) (hr : ∀ x, bk_dom n x → (¬ bk_box x ∨ ¬ bk_box i) → r ≠ ad x) (hAr : bk_box i ∨ A r) (hd : H.size ≤ d' ∨ (bk_dom n e ∧ d' = ad e)) (hAd : A d') (hrd : r ≠ d') (hni : ¬ bk_dom n i) : bk_ok A (bk_a1 ad i e r d') n' := by
  have ea : ∀ x, x ≠ i → x ≠ e → bk_a1 ad i e r d' x = ad x := fun x z1 z2 => by unfold bk_a1; rw [if_neg z1, if_neg z2]
  have ei : bk_a1 ad i e r d' i = r := by unfold bk_a1; rw [if_pos rfl]
  have ee : bk_a1 ad i e r d' e = d' := by unfold bk_a1; rw [if_neg (Ne.symm hie), if_pos rfl]
  have old : ∀ x, bk_dom n' x → x ≠ i → x ≠ e → bk_dom n x := fun x hx z1 z2 => (hdom x hx).resolve_right (fun h => h.elim z1 z2)
  refine bk_ok_new hJ (fun x hx => ?_) (fun x hx hb => ?_)
  · by_cases xi : x = i
    · subst xi
      refine Or.inr (fun y hy hxy => ?_)
      rw [ei] at hxy
      by_cases yi : y = x
      · exact Or.inl yi.symm
      · by_cases ye : y = e
        · rw [ye, ee] at hxy
          exact absurd hxy hrd
        · have oy := old y hy yi ye
          rw [ea y yi ye] at hxy
          by_cases b1 : bk_box x
          · by_cases b2 : bk_box y
            · exact Or.inr ⟨b1, b2⟩
            · exact absurd hxy (hr y oy (Or.inl b2))
          · exact absurd hxy (hr y oy (Or.inr b1))
    · by_cases xe : x = e
      · subst xe
        rcases hd with hd | ⟨h1, h2⟩
        · refine Or.inr (fun y hy hxy => ?_)
          rw [ee] at hxy
          by_cases yi : y = i
          · rw [yi, ei] at hxy
            exact absurd hxy.symm hrd
          · by_cases ye : y = x
            · exact Or.inl ye.symm
            · rw [ea y yi ye] at hxy
              have := hlt y (old y hy yi ye)
              omega
        · exact Or.inl ⟨h1, by rw [ee]; exact h2⟩
      · exact Or.inl ⟨old x hx xi xe, ea x xi xe⟩
  · by_cases xi : x = i
    · subst xi
      refine Or.inr ?_
      rw [ei]
      exact hAr.resolve_left hb
    · by_cases xe : x = e
      · subst xe
        refine Or.inr ?_
        rw [ee]
        exact hAd
      · exact Or.inl ⟨old x hx xi xe, ea x xi xe⟩
theorem bP_own (hP : bP D ad ρ σ nw n H) (hn : bk_n n) (hc : n 0 < 8) {r d' : Nat} {z : Int32} (k : ∀ x, bk_dom n x → x ≠ 7 → x ≠ 10 → H1[ad x]? = H[ad x]?) (hL : bL D (ad 7) d' (n 0 + 1) (va_up (fun j => ad (20 + j)) (n 0) r) H1) (hX : bX D r (z) H1) : bP D (bk_a1 ad (20 + n 0) 10 r d') ρ (va_up σ 2 (upd (σ 2) (n 0) z)) nw (va_up n 0 (n 0 + 1)) H1 := by
  obtain ⟨h0, h1, h2, h3, h4⟩ := hn
  have ea : ∀ x, x ≠ 20 + n 0 → x ≠ 10 → bk_a1 ad (20 + n 0) 10 r d' x = ad x := fun x z1 z2 => by unfold bk_a1; rw [if_neg z1, if_neg z2]
  have ei : bk_a1 ad (20 + n 0) 10 r d' (20 + n 0) = r := by unfold bk_a1; rw [if_pos rfl]
  have ee : bk_a1 ad (20 + n 0) 10 r d' 10 = d' := by unfold bk_a1; rw [if_neg (by omega), if_pos rfl]
  obtain ⟨g1, g2, g3⟩ := hP.2.1.gs
  refine ⟨hP.1.mv (fun x hx => ea x (by omega) (by omega)) rfl rfl (fun x hx => k x (by unfold bk_dom; omega) (by omega) (by omega)), bE2.of ?_ ?_ ?_, hP.2.2.1.mv (fun x hx => ea x (by omega) (by omega)) (k 100 (by unfold bk_dom; omega) (by omega) (by omega)) (k 103 (by unfold bk_dom; omega) (by omega) (by omega)),
    hP.2.2.2.1.mv (fun x hx => ⟨ea x (by omega) (by omega), k x (by unfold bk_dom; omega) (by omega) (by omega)⟩) rfl rfl rfl, hP.2.2.2.2.mv (fun x hx => ⟨ea x (by omega) (by omega), k x (by unfold bk_dom; omega) (by omega) (by omega)⟩) rfl rfl rfl rfl⟩
  · refine g1.add hL hX (ea 7 (by omega) (by omega)) ee (fun j hj => ea (20 + j) (by omega) (by omega)) ei (fun j hj => ?_) ?_ (fun j hj => k (20 + j) (by unfold bk_dom; omega) (by omega) (by omega))
    · show upd _ _ _ _ = _
      exact pk_un (by omega)
    · show upd _ _ _ _ = _
      simp [upd]
  · exact g2.mv (ea 8 (by omega) (by omega)) (fun _ => ea 11 (by omega) (by omega)) (fun j hj => ea (30 + j) (by omega) (by omega)) (fun j hj => rfl) (k 8 (by unfold bk_dom; omega) (by omega) (by omega)) (fun z => k 11 (by unfold bk_dom; omega) (by omega) (by omega)) (fun j hj => k (30 + j) (by unfold bk_dom; omega) (by omega) (by omega))
  · exact g3.mv (ea 9 (by omega) (by omega)) (fun _ => ea 12 (by omega) (by omega)) (fun j hj => ea (40 + j) (by omega) (by omega)) (fun j hj => rfl) (k 9 (by unfold bk_dom; omega) (by omega) (by omega)) (fun z => k 12 (by unfold bk_dom; omega) (by omega) (by omega)) (fun j hj => k (40 + j) (by unfold bk_dom; omega) (by omega) (by omega))
theorem bP_seg (hP : bP D ad ρ σ nw n H) (hn : bk_n n) (hc : n 1 < 4) {r d' : Nat} {x y : Int32} (k : ∀ x, bk_dom n x → x ≠ 8 → x ≠ 11 → H1[ad x]? = H[ad x]?) (hL : bL D (ad 8) d' (n 1 + 1) (va_up (fun j => ad (30 + j)) (n 1) r) H1) (hX : bX D r (x + 4 * y) H1) : bP D (bk_a1 ad (30 + n 1) 11 r d') ρ (va_up (va_up σ 3 (upd (σ 3) (n 1) x)) 4 (upd (σ 4) (n 1) y)) nw (va_up n 1 (n 1 + 1)) H1 := by
  obtain ⟨h0, h1, h2, h3, h4⟩ := hn
  have ea : ∀ x, x ≠ 30 + n 1 → x ≠ 11 → bk_a1 ad (30 + n 1) 11 r d' x = ad x := fun x z1 z2 => by unfold bk_a1; rw [if_neg z1, if_neg z2]
  have ei : bk_a1 ad (30 + n 1) 11 r d' (30 + n 1) = r := by unfold bk_a1; rw [if_pos rfl]
  have ee : bk_a1 ad (30 + n 1) 11 r d' 11 = d' := by unfold bk_a1; rw [if_neg (by omega), if_pos rfl]
  obtain ⟨g1, g2, g3⟩ := hP.2.1.gs
  refine ⟨hP.1.mv (fun x hx => ea x (by omega) (by omega)) rfl rfl (fun x hx => k x (by unfold bk_dom; omega) (by omega) (by omega)), bE2.of ?_ ?_ ?_, hP.2.2.1.mv (fun x hx => ea x (by omega) (by omega)) (k 100 (by unfold bk_dom; omega) (by omega) (by omega)) (k 103 (by unfold bk_dom; omega) (by omega) (by omega)),
    hP.2.2.2.1.mv (fun x hx => ⟨ea x (by omega) (by omega), k x (by unfold bk_dom; omega) (by omega) (by omega)⟩) rfl rfl rfl, hP.2.2.2.2.mv (fun x hx => ⟨ea x (by omega) (by omega), k x (by unfold bk_dom; omega) (by omega) (by omega)⟩) rfl rfl rfl rfl⟩
  · exact g1.mv (ea 7 (by omega) (by omega)) (fun _ => ea 10 (by omega) (by omega)) (fun j hj => ea (20 + j) (by omega) (by omega)) (fun j hj => rfl) (k 7 (by unfold bk_dom; omega) (by omega) (by omega)) (fun z => k 10 (by unfold bk_dom; omega) (by omega) (by omega)) (fun j hj => k (20 + j) (by unfold bk_dom; omega) (by omega) (by omega))
  · refine g2.add hL hX (ea 8 (by omega) (by omega)) ee (fun j hj => ea (30 + j) (by omega) (by omega)) ei (fun j hj => ?_) ?_ (fun j hj => k (30 + j) (by unfold bk_dom; omega) (by omega) (by omega))
    · show upd _ _ _ _ + 4 * upd _ _ _ _ = _
      rw [pk_un (by omega), pk_un (by omega)]
    · show upd _ _ _ _ + 4 * upd _ _ _ _ = _
      simp [upd]
  · exact g3.mv (ea 9 (by omega) (by omega)) (fun _ => ea 12 (by omega) (by omega)) (fun j hj => ea (40 + j) (by omega) (by omega)) (fun j hj => rfl) (k 9 (by unfold bk_dom; omega) (by omega) (by omega)) (fun z => k 12 (by unfold bk_dom; omega) (by omega) (by omega)) (fun j hj => k (40 + j) (by unfold bk_dom; omega) (by omega) (by omega))
theorem bP_joint (hP : bP D ad ρ σ nw n H) (hn : bk_n n) (hc : n 2 < 4) {r d' : Nat} {z : Int32} (k : ∀ x, bk_dom n x → x ≠ 9 → x ≠ 12 → H1[ad x]? = H[ad x]?) (hL : bL D (ad 9) d' (n 2 + 1) (va_up (fun j => ad (40 + j)) (n 2) r) H1) (hX : bX D r (z) H1) : bP D (bk_a1 ad (40 + n 2) 12 r d') ρ (va_up σ 5 (upd (σ 5) (n 2) z)) nw (va_up n 2 (n 2 + 1)) H1 := by
  obtain ⟨h0, h1, h2, h3, h4⟩ := hn
  have ea : ∀ x, x ≠ 40 + n 2 → x ≠ 12 → bk_a1 ad (40 + n 2) 12 r d' x = ad x := fun x z1 z2 => by unfold bk_a1; rw [if_neg z1, if_neg z2]
  have ei : bk_a1 ad (40 + n 2) 12 r d' (40 + n 2) = r := by unfold bk_a1; rw [if_pos rfl]
  have ee : bk_a1 ad (40 + n 2) 12 r d' 12 = d' := by unfold bk_a1; rw [if_neg (by omega), if_pos rfl]
  obtain ⟨g1, g2, g3⟩ := hP.2.1.gs
  refine ⟨hP.1.mv (fun x hx => ea x (by omega) (by omega)) rfl rfl (fun x hx => k x (by unfold bk_dom; omega) (by omega) (by omega)), bE2.of ?_ ?_ ?_, hP.2.2.1.mv (fun x hx => ea x (by omega) (by omega)) (k 100 (by unfold bk_dom; omega) (by omega) (by omega)) (k 103 (by unfold bk_dom; omega) (by omega) (by omega)),
    hP.2.2.2.1.mv (fun x hx => ⟨ea x (by omega) (by omega), k x (by unfold bk_dom; omega) (by omega) (by omega)⟩) rfl rfl rfl, hP.2.2.2.2.mv (fun x hx => ⟨ea x (by omega) (by omega), k x (by unfold bk_dom; omega) (by omega) (by omega)⟩) rfl rfl rfl rfl⟩
  · exact g1.mv (ea 7 (by omega) (by omega)) (fun _ => ea 10 (by omega) (by omega)) (fun j hj => ea (20 + j) (by omega) (by omega)) (fun j hj => rfl) (k 7 (by unfold bk_dom; omega) (by omega) (by omega)) (fun z => k 10 (by unfold bk_dom; omega) (by omega) (by omega)) (fun j hj => k (20 + j) (by unfold bk_dom; omega) (by omega) (by omega))
  · exact g2.mv (ea 8 (by omega) (by omega)) (fun _ => ea 11 (by omega) (by omega)) (fun j hj => ea (30 + j) (by omega) (by omega)) (fun j hj => rfl) (k 8 (by unfold bk_dom; omega) (by omega) (by omega)) (fun z => k 11 (by unfold bk_dom; omega) (by omega) (by omega)) (fun j hj => k (30 + j) (by unfold bk_dom; omega) (by omega) (by omega))
  · refine g3.add hL hX (ea 9 (by omega) (by omega)) ee (fun j hj => ea (40 + j) (by omega) (by omega)) ei (fun j hj => ?_) ?_ (fun j hj => k (40 + j) (by unfold bk_dom; omega) (by omega) (by omega))
    · show upd _ _ _ _ = _
      exact pk_un (by omega)
    · show upd _ _ _ _ = _
      simp [upd]
end BH
