/-! the system's world with one more invader, one more cell -/
set_option maxRecDepth 100000
section BJ
variable {A : Nat → Prop} {D : xk_G} {ad ad' : Nat → Nat} {ρ : Nat} {σ σ' : Nat → Nat → Int32} {nw nw' : Nat → Int32} {n n' : Nat → Nat} {H H1 : Heap}
theorem bP_invd (hP : bP D ad ρ σ nw n H) (hn : bk_n n) (hc : n 4 < 8) {q d' : Nat} {x y z : Int32} (k : ∀ i, bk_dom n i → i ≠ 102 → i ≠ 105 → H1[ad i]? = H[ad i]?) (hL : bL D (ad 102) d' (n 4 + 1) (va_up (fun j => ad (110 + j)) (n 4) q) H1) (hO : bO D q 4 [.int x, .int y, .int z, .int (-1), .int y] H1) : bP D (bk_a1 ad (110 + n 4) 105 q d') ρ (va_up (va_up σ 9 (upd (σ 9) (n 4) x)) 10 (upd (σ 10) (n 4) z)) (upd (upd (upd nw (120 + n 4) y) (128 + n 4) (-1)) (136 + n 4) y) (va_up n 4 (n 4 + 1)) H1 := by
  obtain ⟨h0, h1, h2, h3, h4⟩ := hn
  have ea : ∀ x, x ≠ 110 + n 4 → x ≠ 105 → bk_a1 ad (110 + n 4) 105 q d' x = ad x := fun x z1 z2 => by unfold bk_a1; rw [if_neg z1, if_neg z2]
  have ei : bk_a1 ad (110 + n 4) 105 q d' (110 + n 4) = q := by unfold bk_a1; rw [if_pos rfl]
  have ee : bk_a1 ad (110 + n 4) 105 q d' 105 = d' := by unfold bk_a1; rw [if_neg (by omega), if_pos rfl]
  obtain ⟨g1, g2, g3⟩ := hP.2.1.gs
  have hw : ∀ i, i ≠ 120 + n 4 → i ≠ 128 + n 4 → i ≠ 136 + n 4 → upd (upd (upd nw (120 + n 4) y) (128 + n 4) (-1)) (136 + n 4) y i = nw i := fun i z1 z2 z3 => by rw [pk_un z3, pk_un z2, pk_un z1]
  refine ⟨hP.1.mv (fun x hx => ea x (by omega) (by omega)) rfl rfl (fun x hx => k x (by unfold bk_dom; omega) (by omega) (by omega)), bE2.of ?_ ?_ ?_,
    (hP.2.2.1.mv (fun x hx => ea x (by omega) (by omega)) (k 100 (by unfold bk_dom; omega) (by omega) (by omega)) (k 103 (by unfold bk_dom; omega) (by omega) (by omega))).to rfl rfl (fun i z1 z2 => hw i (by omega) (by omega) (by omega)), ⟨?_, ?_⟩,
    (hP.2.2.2.2.mv (n' := va_up n 4 (n 4 + 1)) (σ' := va_up (va_up σ 9 (upd (σ 9) (n 4) x)) 10 (upd (σ 10) (n 4) z)) (fun x hx => ⟨ea x (by omega) (by omega), k x (by unfold bk_dom; omega) (by omega) (by omega)⟩) rfl rfl rfl rfl).to (fun x _ _ _ _ => rfl) (fun j hj => by
      have hj : j < n 3 := hj
      exact ⟨hw j (by omega) (by omega) (by omega), hw (40 + j) (by omega) (by omega) (by omega), hw (80 + j) (by omega) (by omega) (by omega)⟩)⟩
  · exact g1.mv (ea 7 (by omega) (by omega)) (fun _ => ea 10 (by omega) (by omega)) (fun j hj => ea (20 + j) (by omega) (by omega)) (fun j hj => rfl) (k 7 (by unfold bk_dom; omega) (by omega) (by omega)) (fun z => k 10 (by unfold bk_dom; omega) (by omega) (by omega)) (fun j hj => k (20 + j) (by unfold bk_dom; omega) (by omega) (by omega))
  · exact g2.mv (ea 8 (by omega) (by omega)) (fun _ => ea 11 (by omega) (by omega)) (fun j hj => ea (30 + j) (by omega) (by omega)) (fun j hj => rfl) (k 8 (by unfold bk_dom; omega) (by omega) (by omega)) (fun z => k 11 (by unfold bk_dom; omega) (by omega) (by omega)) (fun j hj => k (30 + j) (by unfold bk_dom; omega) (by omega) (by omega))
  · exact g3.mv (ea 9 (by omega) (by omega)) (fun _ => ea 12 (by omega) (by omega)) (fun j hj => ea (40 + j) (by omega) (by omega)) (fun j hj => rfl) (k 9 (by unfold bk_dom; omega) (by omega) (by omega)) (fun z => k 12 (by unfold bk_dom; omega) (by omega) (by omega)) (fun j hj => k (40 + j) (by unfold bk_dom; omega) (by omega) (by omega))
  · refine hL.mv (ea 102 (by omega) (by omega)) (fun _ => ee) (fun j hj => ?_) rfl (fun _ => rfl)
    have hj : j < n 4 + 1 := hj
    unfold va_up
    by_cases e : j = n 4
    · rw [if_pos e, e, ei]
    · rw [if_neg e]
      exact ea (110 + j) (by omega) (by omega)
  · intro j hj
    have hj : j < n 4 + 1 := hj
    show bO D (bk_a1 ad (110 + n 4) 105 q d' (110 + j)) 4 [.int (upd (σ 9) (n 4) x j), _, .int (upd (σ 10) (n 4) z j), _, _] H1
    by_cases e : j = n 4
    · rw [e, ei, show upd (σ 9) (n 4) x (n 4) = x by simp [upd], show upd (σ 10) (n 4) z (n 4) = z by simp [upd], show upd (upd (upd nw (120 + n 4) y) (128 + n 4) (-1)) (136 + n 4) y (136 + n 4) = y by simp [upd], pk_un (show 128 + n 4 ≠ 136 + n 4 by omega), show upd (upd nw (120 + n 4) y) (128 + n 4) (-1) (128 + n 4) = -1 by simp [upd], pk_un (show 120 + n 4 ≠ 136 + n 4 by omega), pk_un (show 120 + n 4 ≠ 128 + n 4 by omega), show upd nw (120 + n 4) y (120 + n 4) = y by simp [upd]]
      exact hO
    · rw [ea (110 + j) (by omega) (by omega), pk_un e, pk_un e, hw (120 + j) (by omega) (by omega) (by omega), hw (128 + j) (by omega) (by omega) (by omega), hw (136 + j) (by omega) (by omega) (by omega)]
      exact (hP.2.2.2.1.2 j (by omega)).kept (k (110 + j) (by unfold bk_dom; omega) (by omega) (by omega))
theorem bP_newc (hP : bP D ad ρ σ nw n H) (hn : bk_n n) (hc : n 3 < 40) {q d' : Nat} {lo ki pa st sz wk : Int32} (k : ∀ i, bk_dom n i → i ≠ 101 → i ≠ 104 → H1[ad i]? = H[ad i]?) (hL : bL D (ad 101) d' (n 3 + 1) (va_up (fun j => ad (120 + j)) (n 3) q) H1) (hO : bO D q 3 [.int (nI (n 3)), .int lo, .int ki, .int pa, .int st, .int sz, .int wk] H1) : bP D (bk_a1 ad (120 + n 3) 104 q d') ρ (mk_addS σ (n 3) lo ki pa) (upd (upd (upd nw (n 3) st) (40 + n 3) sz) (80 + n 3) wk) (va_up n 3 (n 3 + 1)) H1 := by
  obtain ⟨h0, h1, h2, h3, h4⟩ := hn
  have ea : ∀ x, x ≠ 120 + n 3 → x ≠ 104 → bk_a1 ad (120 + n 3) 104 q d' x = ad x := fun x z1 z2 => by unfold bk_a1; rw [if_neg z1, if_neg z2]
  have ei : bk_a1 ad (120 + n 3) 104 q d' (120 + n 3) = q := by unfold bk_a1; rw [if_pos rfl]
  have ee : bk_a1 ad (120 + n 3) 104 q d' 104 = d' := by unfold bk_a1; rw [if_neg (by omega), if_pos rfl]
  obtain ⟨g1, g2, g3⟩ := hP.2.1.gs
  have hw : ∀ i, i ≠ n 3 → i ≠ 40 + n 3 → i ≠ 80 + n 3 → upd (upd (upd nw (n 3) st) (40 + n 3) sz) (80 + n 3) wk i = nw i := fun i z1 z2 z3 => by rw [pk_un z3, pk_un z2, pk_un z1]
  refine ⟨hP.1.mv (fun x hx => ea x (by omega) (by omega)) rfl rfl (fun x hx => k x (by unfold bk_dom; omega) (by omega) (by omega)), bE2.of ?_ ?_ ?_,
    (hP.2.2.1.mv (fun x hx => ea x (by omega) (by omega)) (k 100 (by unfold bk_dom; omega) (by omega) (by omega)) (k 103 (by unfold bk_dom; omega) (by omega) (by omega))).to rfl rfl (fun i z1 z2 => hw i (by omega) (by omega) (by omega)),
    (hP.2.2.2.1.mv (n' := va_up n 3 (n 3 + 1)) (σ' := mk_addS σ (n 3) lo ki pa) (fun x hx => ⟨ea x (by omega) (by omega), k x (by unfold bk_dom; omega) (by omega) (by omega)⟩) rfl rfl rfl).to (show n 4 ≤ 8 from h4) (fun x _ _ _ _ => rfl) (fun j hj => by
      have hj : j < n 4 := hj
      exact ⟨hw (120 + j) (by omega) (by omega) (by omega), hw (128 + j) (by omega) (by omega) (by omega), hw (136 + j) (by omega) (by omega) (by omega)⟩), ⟨?_, ?_⟩⟩
  · exact g1.mv (ea 7 (by omega) (by omega)) (fun _ => ea 10 (by omega) (by omega)) (fun j hj => ea (20 + j) (by omega) (by omega)) (fun j hj => rfl) (k 7 (by unfold bk_dom; omega) (by omega) (by omega)) (fun z => k 10 (by unfold bk_dom; omega) (by omega) (by omega)) (fun j hj => k (20 + j) (by unfold bk_dom; omega) (by omega) (by omega))
  · exact g2.mv (ea 8 (by omega) (by omega)) (fun _ => ea 11 (by omega) (by omega)) (fun j hj => ea (30 + j) (by omega) (by omega)) (fun j hj => rfl) (k 8 (by unfold bk_dom; omega) (by omega) (by omega)) (fun z => k 11 (by unfold bk_dom; omega) (by omega) (by omega)) (fun j hj => k (30 + j) (by unfold bk_dom; omega) (by omega) (by omega))
  · exact g3.mv (ea 9 (by omega) (by omega)) (fun _ => ea 12 (by omega) (by omega)) (fun j hj => ea (40 + j) (by omega) (by omega)) (fun j hj => rfl) (k 9 (by unfold bk_dom; omega) (by omega) (by omega)) (fun z => k 12 (by unfold bk_dom; omega) (by omega) (by omega)) (fun j hj => k (40 + j) (by unfold bk_dom; omega) (by omega) (by omega))
  · refine hL.mv (ea 101 (by omega) (by omega)) (fun _ => ee) (fun j hj => ?_) rfl (fun _ => rfl)
    have hj : j < n 3 + 1 := hj
    unfold va_up
    by_cases e : j = n 3
    · rw [if_pos e, e, ei]
    · rw [if_neg e]
      exact ea (120 + j) (by omega) (by omega)
  · intro j hj
    have hj : j < n 3 + 1 := hj
    show bO D (bk_a1 ad (120 + n 3) 104 q d' (120 + j)) 3 [_, .int (upd (σ 6) (n 3) lo j), .int (upd (σ 7) (n 3) ki j), .int (upd (σ 8) (n 3) pa j), _, _, _] H1
    by_cases e : j = n 3
    · rw [e, ei, show upd (σ 6) (n 3) lo (n 3) = lo by simp [upd], show upd (σ 7) (n 3) ki (n 3) = ki by simp [upd], show upd (σ 8) (n 3) pa (n 3) = pa by simp [upd], show upd (upd (upd nw (n 3) st) (40 + n 3) sz) (80 + n 3) wk (80 + n 3) = wk by simp [upd], pk_un (show 40 + n 3 ≠ 80 + n 3 by omega), show upd (upd nw (n 3) st) (40 + n 3) sz (40 + n 3) = sz by simp [upd], pk_un (show n 3 ≠ 80 + n 3 by omega), pk_un (show n 3 ≠ 40 + n 3 by omega), show upd nw (n 3) st (n 3) = st by simp [upd]]
      exact hO
    · rw [ea (120 + j) (by omega) (by omega), pk_un e, pk_un e, pk_un e, hw j (by omega) (by omega) (by omega), hw (40 + j) (by omega) (by omega) (by omega), hw (80 + j) (by omega) (by omega) (by omega)]
      exact (hP.2.2.2.2.2 j (by omega)).kept (k (120 + j) (by unfold bk_dom; omega) (by omega) (by omega))
end BJ
