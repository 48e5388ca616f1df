/-! THE INSIDE takes up a cell (printed by gen/model.py) -/
set_option maxRecDepth 100000
set_option maxHeartbeats 4000000 in
theorem a_add (l : Launch) (D : xk_G) (A : Nat → Prop) (ad : Nat → Nat) (σ : Nat → Nat → Int32) (nw : Nat → Int32) (n : Nat → Nat) (hJ : bk_ok A ad n) (hn0 : bk_n n) (q5 : Nat) (lo ki pa st sz wk : Int32) (hq5 : ∀ x, bk_dom n x → q5 ≠ ad x) (hA5 : A q5) (hst : n 3 < 40) : Met l yX2_add (ws_ yX2_add cX2_add 2 (none)) (xk_Rm 8 300 1 90) (xe_Pre D A (fun H => bP D ad (ad 100) σ nw n H ∧ bO D q5 3 [.int (nI (n 3)), .int lo, .int ki, .int pa, .int st, .int sz, .int wk] H) [.ref (ad 100), .ref q5]) (xk_Pv A (fun H => ∃ ad9 : Nat → Nat, ad9 0 = ad 0 ∧ ad9 100 = ad 100 ∧ bk_ok A ad9 (va_up n 3 (n 3 + 1)) ∧ bP D ad9 (ad9 100) (mk_addS σ (n 3) lo ki pa) (bk_newc nw (n 3) st sz wk) (va_up n 3 (n 3 + 1)) H)) 1 90 A := by
  refine xe_startV (by decide +kernel) (Nat.le_of_ble_eq_true rfl) ?_
  intro p e s m args below meth c Q hAt hin hK hE hA hP hR ls hl
  obtain ⟨hx, hb, hml, hown, hts⟩ := id hAt
  have hl : lv_has ls 2 [(0, .ref (ad 100)), (1, .ref q5)] := hl
  have hS : va_S A s.heap s.heap [] := va_S.rf
  obtain ⟨h0m, h1m, h2m, h3m, h4m⟩ := id hn0
  obtain ⟨hP, hO⟩ := hP
  refine lv_aload_n hx hb dX2_add_0 rfl (lv_at hl 0 rfl) ?_
  refine xk_getO hAt hK (b100 hP) (C := RX2) (T := TX2) (N := 7) rfl 0 (by decide) (v := .ref (ad 101)) rfl (hts _ q109) (fun _ h => h) in_X2 dX2_add_1 ?_
  refine lv_aload_n hx hb dX2_add_4 rfl (lv_at hl 1 rfl) ?_
  have hS9 := hS
  have hL1 : bk_dom n 101 ∧ ¬ bk_box 101 := ⟨by unfold bk_dom; omega, by unfold bk_box; omega⟩
  have hE1 : 0 < n 3 → bk_dom n 104 ∧ ¬ bk_box 104 := fun z => ⟨by unfold bk_dom; omega, by unfold bk_box; omega⟩
  refine xe_ci5 (A1 := b_A1 s.heap.size (ad 101) (ad 104) (n 3)) (va_runF (As := [.ref q5]) (rest := []) (hK.1.1 5 (RJ2, TJ2, 3) rfl).2 ⟨hx, hb, hml, hown, hts⟩ (e_add l D (b_A1 s.heap.size (ad 101) (ad 104) (n 3)) 3 rfl q1053 s.heap.size (ad 101) q5 (ad 104) (n 3) (fun j => ad (120 + j)) (Or.inr (Or.inl rfl)) (b_A1q hO.lt hq5 hL1.1 (fun z => (hE1 z).1)) (by omega) (fun z => ⟨Or.inr (Or.inr ⟨z, rfl⟩), fun z2 => absurd ((hJ.1 104 101 (hE1 z).1 hL1.1 z2).resolve_right (fun z3 => hL1.2 z3.2)) (by decide)⟩) (bP_lt hP 101 hL1.1)) (va_cwF 1 hts (xk_lwF q569 q382 q384 q40 q386) rfl rfl rfl hK.2.2.2.2.1 (by decide +kernel) ⟨Nat.le_of_ble_eq_true rfl, Nat.le_of_ble_eq_true rfl⟩) (xe_preV hK (hE.at hS (b_A1s hJ hA hL1 hE1)) ⟨rfl, bcl hP, hO.el, fun i hi => ⟨b_A1n hJ (by unfold bk_dom; omega) (bP_lt hP _ (by unfold bk_dom; omega)) hL1 hE1 (by omega) (by omega), (bcell hP i hi).el⟩⟩ (fun q h => Or.inl h) (xk_recvL hK (bcl hP))) rfl rfl hl.1 rfl (lv_room (Nat.le_of_ble_eq_true rfl)) dX2_add_5 ⟨Nat.le_of_ble_eq_true rfl, Nat.le_of_ble_eq_true rfl⟩) hS (b_A1s hJ hA hL1 hE1) (fun r2 H locs hq hz hF hS => ?_)
  obtain ⟨rfl, d', hd', hL⟩ := hq
  obtain ⟨ad9, e9, e100, eq9, hJ9, hP⟩ := b_newcAfter hJ hn0 (by omega) hA hP hO hq5 hA5 hF hd' hL
  have hJ := hJ9
  have hn0 : bk_n (va_up n 3 (n 3 + 1)) := ⟨h0m, h1m, h2m, (show n 3 + 1 ≤ 40 by omega), h4m⟩
  have hP : bP D ad9 (ad9 100) (mk_addS σ (n 3) lo ki pa) (bk_new4 nw (n 3) st sz wk) (va_up n 3 (n 3 + 1)) H := hP
  have hl : lv_has ls 2 [(0, .ref (ad9 100)), (1, .ref (ad9 (120 + n 3)))] := by rw [e100, eq9]; exact hl
  refine lv_pop hx hb dX2_add_10 rfl ?_
  refine lv_aload_n hx hb dX2_add_11 rfl (lv_at hl 0 rfl) ?_
  refine lv_dup hx hb dX2_add_12 rfl ?_
  refine xk_getO hAt hK (b100 hP) (C := RX2) (T := TX2) (N := 7) rfl 3 (by decide) (v := .int ((bk_new4 nw (n 3) st sz wk) 152)) rfl (hts _ q115) (fun _ h => h) in_X2 dX2_add_13 ?_
  refine lv_iconst (v := 1) hx hb dX2_add_16 (by decide) ?_
  refine lv_iadd hx hb dX2_add_17 ?_
  refine xk_putO hAt hK hS (b100 hP) (hJ.2 100 (by unfold bk_dom; omega) (by unfold bk_box; omega)) (C := RX2) (T := TX2) (N := 7) rfl 3 (by decide) (v := .int (((bk_new4 nw (n 3) st sz wk) 152) + 1)) (hts _ q115) (fun _ h => h) rfl (ty := .int) (by decide +kernel) rfl rfl tyX2 tyX2_ok nmX2 (Nat.le_of_ble_eq_true rfl) in_X2 dX2_add_18 (fun H locs ho oq hz hS => ?_)
  have hP : bP D ad9 (ad9 100) (mk_addS σ (n 3) lo ki pa) (upd (bk_new4 nw (n 3) st sz wk) 152 (((bk_new4 nw (n 3) st sz wk) 152) + 1)) (va_up n 3 (n 3 + 1)) H := bP_born hJ hP hn0 ho oq
  refine lv_aload_n hx hb dX2_add_21 rfl (lv_at hl 0 rfl) ?_
  refine lv_dup hx hb dX2_add_22 rfl ?_
  refine xk_getO hAt hK (b100 hP) (C := RX2) (T := TX2) (N := 7) rfl 4 (by decide) (v := .int ((upd (bk_new4 nw (n 3) st sz wk) 152 (((bk_new4 nw (n 3) st sz wk) 152) + 1)) 153)) rfl (hts _ q116) (fun _ h => h) in_X2 dX2_add_23 ?_
  refine lv_aload_n hx hb dX2_add_26 rfl (lv_at hl 1 rfl) ?_
  refine xk_getN hAt hK (bcell hP (n 3) (by first | omega | exact Nat.lt_succ_self _)) (C := RX4) (T := TX4) (N := 7) rfl 5 (by decide) (v := .int ((upd (bk_new4 nw (n 3) st sz wk) 152 (((bk_new4 nw (n 3) st sz wk) 152) + 1)) (40 + n 3))) rfl q544 (fun _ h => h) in_X4 dX2_add_27 ?_
  have J38_2 : ∀ (H : Heap) (locs : List Loc) (ls : Array Slot) (t0 : Int32), t0 = xk_b ((upd (bk_new4 nw (n 3) st sz wk) 152 (((bk_new4 nw (n 3) st sz wk) 152) + 1)) (40 + n 3) = 0) → bP D ad9 (ad9 100) (mk_addS σ (n 3) lo ki pa) (upd (bk_new4 nw (n 3) st sz wk) 152 (((bk_new4 nw (n 3) st sz wk) 152) + 1)) (va_up n 3 (n 3 + 1)) H → va_S A s.heap H locs → lv_has ls 2 [(0, .ref (ad9 100)), (1, .ref (ad9 (120 + n 3)))] → W p l e (xk_Rm 8 300 1 90) s m args below meth c H locs (0 + 1) (0 + 90) Q (F0 m 38 ls [.int t0, .int ((upd (bk_new4 nw (n 3) st sz wk) 152 (((bk_new4 nw (n 3) st sz wk) 152) + 1)) 153), .ref (ad9 100)]) := by
    intro H locs ls t0 et0 hP hS hl
    subst et0
    refine lv_iadd hx hb dX2_add_38 ?_
    refine xk_putO hAt hK hS (b100 hP) (hJ.2 100 (by unfold bk_dom; omega) (by unfold bk_box; omega)) (C := RX2) (T := TX2) (N := 7) rfl 4 (by decide) (v := .int (((upd (bk_new4 nw (n 3) st sz wk) 152 (((bk_new4 nw (n 3) st sz wk) 152) + 1)) 153) + (xk_b ((upd (bk_new4 nw (n 3) st sz wk) 152 (((bk_new4 nw (n 3) st sz wk) 152) + 1)) (40 + n 3) = 0)))) (hts _ q116) (fun _ h => h) rfl (ty := .int) (by decide +kernel) rfl rfl tyX2 tyX2_ok nmX2 (Nat.le_of_ble_eq_true rfl) in_X2 dX2_add_39 (fun H locs ho oq hz hS => ?_)
    have hP : bP D ad9 (ad9 100) (mk_addS σ (n 3) lo ki pa) (upd (upd (bk_new4 nw (n 3) st sz wk) 152 (((bk_new4 nw (n 3) st sz wk) 152) + 1)) 153 (((upd (bk_new4 nw (n 3) st sz wk) 152 (((bk_new4 nw (n 3) st sz wk) 152) + 1)) 153) + (xk_b ((upd (bk_new4 nw (n 3) st sz wk) 152 (((bk_new4 nw (n 3) st sz wk) 152) + 1)) (40 + n 3) = 0)))) (va_up n 3 (n 3 + 1)) H := bP_dead hJ hP hn0 ho oq
    exact hR _ _ _ _ dX2_add_42 ⟨ad9, e9, e100, hJ9, hP⟩ hS
  refine lv_if_ne (tgt := 37) hx hb dX2_add_30 (by decide) (fun c_1 => ?_) (fun c_1 => ?_)
  · skip
    refine lv_iconst (v := 0) hx hb dX2_add_37 (by decide) ?_
    exact J38_2 _ _ _ 0 ((if_neg c_1).symm) hP hS (lv_sub hl [0, 1] rfl)
  refine lv_iconst (v := 1) hx hb dX2_add_33 (by decide) ?_
  refine lv_goto (tgt := 38) hx hb dX2_add_34 (by decide) ?_
  exact J38_2 _ _ _ 1 ((if_pos c_1).symm) hP hS (lv_sub hl [0, 1] rfl)
