/-! THE BODY's methods that make cells (printed by gen/model.py) -/
set_option maxRecDepth 100000
theorem cdJ9_valueOf : yJ9_valueOf.cls ≠ "java/lang/invoke/MethodHandle" ∧ yJ9_valueOf.cls ≠ "java/lang/invoke/VarHandle" ∧ (parseMethodDescriptor yJ9_valueOf.desc).map (fun d => d.parameters.length) = some 1 := by decide +kernel
set_option maxHeartbeats 4000000 in
theorem a_own (l : Launch) (D : xk_G) (A : Nat → Prop) (ad : Nat → Nat) (σ : Nat → Nat → Int32) (nw : Nat → Int32) (n : Nat → Nat) (hJ : bk_ok A ad n) (hn0 : bk_n n) (x : Int32) (hx0 : mk_in x 0 255) (hst : ¬ (8 ≤ n 0)) : Met l yX1_own (ws_ yX1_own cX1_own 2 (some .int)) (xk_Rm 8 300 2 91) (xe_Pre D A (bP D ad (ad 100) σ nw n) [.ref (ad 0), .int x]) (xk_Pi A (fun r H => r = nI (n 0) ∧ ∃ ad9 : Nat → Nat, ad9 0 = ad 0 ∧ bk_ok A ad9 (va_up n 0 (n 0 + 1)) ∧ bP D ad9 (ad9 100) (va_up σ 2 (upd (σ 2) (n 0) x)) nw (va_up n 0 (n 0 + 1)) H)) 2 91 A := by
  refine xe_startI (by decide +kernel) (Nat.le_of_ble_eq_true rfl) ?_
  intro p e s m args below meth c Q hAt hin hK hE hA hP hR ls hl
  obtain ⟨hx, hb, hml, hown, hts⟩ := id hAt
  have hl : lv_has ls 2 [(0, .ref (ad 0)), (1, .int x)] := hl
  have hS : va_S A s.heap s.heap [] := va_S.rf
  obtain ⟨h0m, h1m, h2m, h3m, h4m⟩ := id hn0
  refine lv_iload_n hx hb dX1_own_0 rfl (lv_at hl 1 rfl) ?_
  refine xk_cvS hAt hK (P := bP D ad (ad 100) σ nw n) hP hA hS (As := [.int x]) (rest := []) (b_checkWord l D A (bP D ad (ad 100) σ nw n) x (by assumption)) (va_cwS 1 hts (lw_S q164 q165 q37 q166) rfl rfl rfl cdX1_checkWord ⟨Nat.le_of_ble_eq_true rfl, Nat.le_of_ble_eq_true rfl⟩) rfl hl.1 rfl (Nat.le_of_ble_eq_true rfl) dX1_own_1 ⟨Nat.le_of_ble_eq_true rfl, Nat.le_of_ble_eq_true rfl⟩ (fun H locs hP hS => ?_)
  refine lv_aload_n hx hb dX1_own_4 rfl (lv_at hl 0 rfl) ?_
  refine xk_getO hAt hK (b0 hP) (C := RX1) (T := TX1) (N := 6) rfl 2 (by decide) (v := .ref (ad 7)) rfl (hts _ q138) (fun _ h => h) in_X1 dX1_own_5 ?_
  refine xk_ciF hAt hK (P := bP D ad (ad 100) σ nw n) hP hA hS (xk_recvL hK (bow hP)) (As := []) (rest := []) (al_size l D A (bP D ad (ad 100) σ nw n) (ad 7) (ad 10) (n 0) (fun j => ad (20 + j)) (fun _ h => bow h)) (va_cwF 0 hts (xk_lwF q236 q240 q242 q40 q244) rfl rfl rfl hK.2.2.1 (by decide +kernel) ⟨Nat.le_of_ble_eq_true rfl, Nat.le_of_ble_eq_true rfl⟩) rfl hl.1 rfl (Nat.le_of_ble_eq_true rfl) dX1_own_8 ⟨Nat.le_of_ble_eq_true rfl, Nat.le_of_ble_eq_true rfl⟩ (fun r H locs hq hS => ?_)
  obtain ⟨rfl, hP⟩ := hq
  refine lv_bipush (v := 8) hx hb dX1_own_13 (by decide) ?_
  have J23_2 : ∀ (H : Heap) (locs : List Loc) (ls : Array Slot) (t0 : Int32), t0 = xk_b (¬ (8 ≤ n 0)) → bP D ad (ad 100) σ nw n H → va_S A s.heap H locs → lv_has ls 2 [(0, .ref (ad 0)), (1, .int x)] → W p l e (xk_Rm 8 300 2 91) s m args below meth c H locs 0 0 Q (F0 m 23 ls [.int t0]) := by
    intro H locs ls t0 et0 hP hS hl
    subst et0
    refine xk_cvS hAt hK (P := bP D ad (ad 100) σ nw n) hP hA hS (As := [.int (xk_b (¬ (8 ≤ n 0)))]) (rest := []) (b_checkState l D A (bP D ad (ad 100) σ nw n) (¬ (8 ≤ n 0)) (by assumption)) (va_cwS 1 hts (lw_S q340 q341 q37 q342) rfl rfl rfl cdX1_checkState ⟨Nat.le_of_ble_eq_true rfl, Nat.le_of_ble_eq_true rfl⟩) rfl hl.1 rfl (Nat.le_of_ble_eq_true rfl) dX1_own_23 ⟨Nat.le_of_ble_eq_true rfl, Nat.le_of_ble_eq_true rfl⟩ (fun H locs hP hS => ?_)
    refine lv_aload_n hx hb dX1_own_26 rfl (lv_at hl 0 rfl) ?_
    refine xk_getO hAt hK (b0 hP) (C := RX1) (T := TX1) (N := 6) rfl 2 (by decide) (v := .ref (ad 7)) rfl (hts _ q138) (fun _ h => h) in_X1 dX1_own_27 ?_
    refine lv_iload_n hx hb dX1_own_30 rfl (lv_at hl 1 rfl) ?_
    have hPo := hP
    refine xe_cr (A1 := A) (va_runS (As := [.int x]) (rest := [.ref (ad 7)]) ⟨hx, hb, hml, hown, hts⟩ (e_valueOf l D A H x) (va_cwS 1 hts (lw_S q358 q359 q49 q360) rfl rfl rfl cdJ9_valueOf ⟨Nat.le_of_ble_eq_true rfl, Nat.le_of_ble_eq_true rfl⟩) (xe_preS hK (hE.at hS (fun _ h => h)) rfl (fun q h => hA q (Nat.le_trans hS.1 h))) rfl rfl hl.1 rfl (lv_room (Nat.le_of_ble_eq_true rfl)) dX1_own_31 ⟨(Nat.le_of_ble_eq_true rfl), (Nat.le_of_ble_eq_true rfl)⟩) hS (fun _ h => h) (fun r H9 locs hq hz9 hF9 hS => ?_)
    obtain ⟨hX, hr, hf9⟩ := hq
    have hP := bP_keep hP (fun x hx => hf9 (ad x) (bP_lt hP x hx))
    have hr : ∀ x, bk_dom n x → ¬ bk_box x → r ≠ ad x := fun x hx hb ex => hr.elim (fun h => absurd (bP_lt hPo x hx) (by omega)) (fun h => h (by rw [ex]; exact hJ.2 x hx hb))
    clear hPo hf9 hF9
    have hS9 := hS
    have hL1 : bk_dom n 7 ∧ ¬ bk_box 7 := ⟨by unfold bk_dom; omega, by unfold bk_box; omega⟩
    have hE1 : 0 < n 0 → bk_dom n 10 ∧ ¬ bk_box 10 := fun z => ⟨by unfold bk_dom; omega, by unfold bk_box; omega⟩
    refine xe_ci5 (A1 := b_A1 H9.size (ad 7) (ad 10) (n 0)) (va_runF (As := [.ref r]) (rest := []) (hK.1.1 5 (RJ2, TJ2, 3) rfl).2 ⟨hx, hb, hml, hown, hts⟩ (e_add l D (b_A1 H9.size (ad 7) (ad 10) (n 0)) 6 rfl q1050 H9.size (ad 7) r (ad 10) (n 0) (fun j => ad (20 + j)) (Or.inr (Or.inl rfl)) (b_A1r hX.lt hr hL1 hE1) (by omega) (fun z => ⟨Or.inr (Or.inr ⟨z, rfl⟩), fun z2 => absurd ((hJ.1 10 7 (hE1 z).1 hL1.1 z2).resolve_right (fun z3 => hL1.2 z3.2)) (by decide)⟩) (bP_lt hP 7 hL1.1)) (va_cwF 1 hts (xk_lwF q379 q382 q384 q40 q386) rfl rfl rfl hK.2.2.2.2.1 (by decide +kernel) ⟨Nat.le_of_ble_eq_true rfl, Nat.le_of_ble_eq_true rfl⟩) (xe_preV hK (hE.at hS (b_A1s hJ (fun q h => hA q (Nat.le_trans hS.1 h)) hL1 hE1)) ⟨rfl, bow hP, hX.el, fun i hi => ⟨b_A1n hJ (by unfold bk_dom; omega) (bP_lt hP _ (by unfold bk_dom; omega)) hL1 hE1 (by omega) (by omega), (bxo hP i hi).el⟩⟩ (fun q h => Or.inl h) (xk_recvL hK (bow hP))) rfl rfl hl.1 rfl (lv_room (Nat.le_of_ble_eq_true rfl)) dX1_own_34 ⟨Nat.le_of_ble_eq_true rfl, Nat.le_of_ble_eq_true rfl⟩) hS (b_A1s hJ (fun q h => hA q (Nat.le_trans hS.1 h)) hL1 hE1) (fun r2 H locs hq hz hF hS => ?_)
    obtain ⟨rfl, d', hd', hL⟩ := hq
    obtain ⟨ad9, e9, hJ9, hP⟩ := b_ownAfter hJ hn0 (by omega) (fun q h => hA q (Nat.le_trans hS9.1 h)) hP hX hr hF hd' hL
    have hP : bP D ad9 (ad9 100) (va_up σ 2 (upd (σ 2) (n 0) (x))) nw (va_up n 0 (n 0 + 1)) H := hP
    have hl : lv_has ls 2 [(0, .ref (ad9 0)), (1, .int x)] := by rw [e9]; exact hl
    refine lv_pop hx hb dX1_own_39 rfl ?_
    refine lv_aload_n hx hb dX1_own_40 rfl (lv_at hl 0 rfl) ?_
    refine xk_getO hAt hK (b0 hP) (C := RX1) (T := TX1) (N := 6) rfl 2 (by decide) (v := .ref (ad9 7)) rfl (hts _ q138) (fun _ h => h) in_X1 dX1_own_41 ?_
    refine xk_ciF hAt hK (P := bP D ad9 (ad9 100) (va_up σ 2 (upd (σ 2) (n 0) (x))) nw (va_up n 0 (n 0 + 1))) hP hA hS (xk_recvL hK (bow hP)) (As := []) (rest := []) (al_size l D A (bP D ad9 (ad9 100) (va_up σ 2 (upd (σ 2) (n 0) (x))) nw (va_up n 0 (n 0 + 1))) (ad9 7) (ad9 10) (n 0 + 1) (fun j => ad9 (20 + j)) (fun _ h => bow (n := va_up n 0 (n 0 + 1)) h)) (va_cwF 0 hts (xk_lwF q236 q240 q242 q40 q244) rfl rfl rfl hK.2.2.1 (by decide +kernel) ⟨Nat.le_of_ble_eq_true rfl, Nat.le_of_ble_eq_true rfl⟩) rfl hl.1 rfl (Nat.le_of_ble_eq_true rfl) dX1_own_44 ⟨Nat.le_of_ble_eq_true rfl, Nat.le_of_ble_eq_true rfl⟩ (fun r H locs hq hS => ?_)
    obtain ⟨rfl, hP⟩ := hq
    refine lv_iconst (v := 1) hx hb dX1_own_49 (by decide) ?_
    refine lv_isub hx hb dX1_own_50 ?_
    refine xk_to (y := nI (n 0)) (nI_pred (n 0)) ?_
    exact hR _ _ _ _ _ dX1_own_51 ⟨rfl, ad9, e9, hJ9, hP⟩ hS
  refine mk_ge (tgt := 22) (a := n 0) (b := 8) hx hb (by omega) (by omega) dX1_own_15 (by decide) (fun c_1 => ?_) (fun c_1 => ?_)
  · skip
    refine lv_iconst (v := 0) hx hb dX1_own_22 (by decide) ?_
    exact J23_2 _ _ _ 0 ((if_neg (fun h => h c_1)).symm) hP hS (lv_sub hl [0, 1] rfl)
  refine lv_iconst (v := 1) hx hb dX1_own_18 (by decide) ?_
  refine lv_goto (tgt := 23) hx hb dX1_own_19 (by decide) ?_
  exact J23_2 _ _ _ 1 ((if_pos (Nat.not_le.mpr c_1)).symm) hP hS (lv_sub hl [0, 1] rfl)
set_option maxHeartbeats 4000000 in
theorem a_segment (l : Launch) (D : xk_G) (A : Nat → Prop) (ad : Nat → Nat) (σ : Nat → Nat → Int32) (nw : Nat → Int32) (n : Nat → Nat) (hJ : bk_ok A ad n) (hn0 : bk_n n) (x y : Int32) (hx0 : mk_in x 0 3) (hy0 : mk_in y 0 3) (hst : ¬ (4 ≤ n 1)) : Met l yX1_segment (ws_ yX1_segment cX1_segment 3 (some .int)) (xk_Rm 8 300 2 91) (xe_Pre D A (bP D ad (ad 100) σ nw n) [.ref (ad 0), .int x, .int y]) (xk_Pi A (fun r H => r = nI (n 1) ∧ ∃ ad9 : Nat → Nat, ad9 0 = ad 0 ∧ bk_ok A ad9 (va_up n 1 (n 1 + 1)) ∧ bP D ad9 (ad9 100) (va_up (va_up σ 3 (upd (σ 3) (n 1) x)) 4 (upd (σ 4) (n 1) y)) nw (va_up n 1 (n 1 + 1)) H)) 2 91 A := by
  refine xe_startI (by decide +kernel) (Nat.le_of_ble_eq_true rfl) ?_
  intro p e s m args below meth c Q hAt hin hK hE hA hP hR ls hl
  obtain ⟨hx, hb, hml, hown, hts⟩ := id hAt
  have hl : lv_has ls 3 [(0, .ref (ad 0)), (1, .int x), (2, .int y)] := hl
  have hS : va_S A s.heap s.heap [] := va_S.rf
  obtain ⟨h0m, h1m, h2m, h3m, h4m⟩ := id hn0
  refine lv_iload_n hx hb dX1_segment_0 rfl (lv_at hl 1 rfl) ?_
  refine xk_cvS hAt hK (P := bP D ad (ad 100) σ nw n) hP hA hS (As := [.int x]) (rest := []) (b_checkLetter l D A (bP D ad (ad 100) σ nw n) x (by assumption)) (va_cwS 1 hts (lw_S q311 q312 q37 q313) rfl rfl rfl cdX1_checkLetter ⟨Nat.le_of_ble_eq_true rfl, Nat.le_of_ble_eq_true rfl⟩) rfl hl.1 rfl (Nat.le_of_ble_eq_true rfl) dX1_segment_1 ⟨Nat.le_of_ble_eq_true rfl, Nat.le_of_ble_eq_true rfl⟩ (fun H locs hP hS => ?_)
  refine lv_iload_n hx hb dX1_segment_4 rfl (lv_at hl 2 rfl) ?_
  refine xk_cvS hAt hK (P := bP D ad (ad 100) σ nw n) hP hA hS (As := [.int y]) (rest := []) (b_checkLetter l D A (bP D ad (ad 100) σ nw n) y (by assumption)) (va_cwS 1 hts (lw_S q311 q312 q37 q313) rfl rfl rfl cdX1_checkLetter ⟨Nat.le_of_ble_eq_true rfl, Nat.le_of_ble_eq_true rfl⟩) rfl hl.1 rfl (Nat.le_of_ble_eq_true rfl) dX1_segment_5 ⟨Nat.le_of_ble_eq_true rfl, Nat.le_of_ble_eq_true rfl⟩ (fun H locs hP hS => ?_)
  refine lv_aload_n hx hb dX1_segment_8 rfl (lv_at hl 0 rfl) ?_
  refine xk_getO hAt hK (b0 hP) (C := RX1) (T := TX1) (N := 6) rfl 3 (by decide) (v := .ref (ad 8)) rfl (hts _ q140) (fun _ h => h) in_X1 dX1_segment_9 ?_
  refine xk_ciF hAt hK (P := bP D ad (ad 100) σ nw n) hP hA hS (xk_recvL hK (bsg hP)) (As := []) (rest := []) (al_size l D A (bP D ad (ad 100) σ nw n) (ad 8) (ad 11) (n 1) (fun j => ad (30 + j)) (fun _ h => bsg h)) (va_cwF 0 hts (xk_lwF q236 q240 q242 q40 q244) rfl rfl rfl hK.2.2.1 (by decide +kernel) ⟨Nat.le_of_ble_eq_true rfl, Nat.le_of_ble_eq_true rfl⟩) rfl hl.1 rfl (Nat.le_of_ble_eq_true rfl) dX1_segment_12 ⟨Nat.le_of_ble_eq_true rfl, Nat.le_of_ble_eq_true rfl⟩ (fun r H locs hq hS => ?_)
  obtain ⟨rfl, hP⟩ := hq
  refine lv_iconst (v := 4) hx hb dX1_segment_17 (by decide) ?_
  have J26_2 : ∀ (H : Heap) (locs : List Loc) (ls : Array Slot) (t0 : Int32), t0 = xk_b (¬ (4 ≤ n 1)) → bP D ad (ad 100) σ nw n H → va_S A s.heap H locs → lv_has ls 3 [(0, .ref (ad 0)), (1, .int x), (2, .int y)] → W p l e (xk_Rm 8 300 2 91) s m args below meth c H locs 0 0 Q (F0 m 26 ls [.int t0]) := by
    intro H locs ls t0 et0 hP hS hl
    subst et0
    refine xk_cvS hAt hK (P := bP D ad (ad 100) σ nw n) hP hA hS (As := [.int (xk_b (¬ (4 ≤ n 1)))]) (rest := []) (b_checkState l D A (bP D ad (ad 100) σ nw n) (¬ (4 ≤ n 1)) (by assumption)) (va_cwS 1 hts (lw_S q340 q341 q37 q342) rfl rfl rfl cdX1_checkState ⟨Nat.le_of_ble_eq_true rfl, Nat.le_of_ble_eq_true rfl⟩) rfl hl.1 rfl (Nat.le_of_ble_eq_true rfl) dX1_segment_26 ⟨Nat.le_of_ble_eq_true rfl, Nat.le_of_ble_eq_true rfl⟩ (fun H locs hP hS => ?_)
    refine lv_aload_n hx hb dX1_segment_29 rfl (lv_at hl 0 rfl) ?_
    refine xk_getO hAt hK (b0 hP) (C := RX1) (T := TX1) (N := 6) rfl 3 (by decide) (v := .ref (ad 8)) rfl (hts _ q140) (fun _ h => h) in_X1 dX1_segment_30 ?_
    refine lv_iload_n hx hb dX1_segment_33 rfl (lv_at hl 1 rfl) ?_
    refine lv_iconst (v := 4) hx hb dX1_segment_34 (by decide) ?_
    refine lv_iload_n hx hb dX1_segment_35 rfl (lv_at hl 2 rfl) ?_
    refine lv_imul hx hb dX1_segment_36 ?_
    refine lv_iadd hx hb dX1_segment_37 ?_
    have hPo := hP
    refine xe_cr (A1 := A) (va_runS (As := [.int (x + (4 * y))]) (rest := [.ref (ad 8)]) ⟨hx, hb, hml, hown, hts⟩ (e_valueOf l D A H (x + (4 * y))) (va_cwS 1 hts (lw_S q358 q359 q49 q360) rfl rfl rfl cdJ9_valueOf ⟨Nat.le_of_ble_eq_true rfl, Nat.le_of_ble_eq_true rfl⟩) (xe_preS hK (hE.at hS (fun _ h => h)) rfl (fun q h => hA q (Nat.le_trans hS.1 h))) rfl rfl hl.1 rfl (lv_room (Nat.le_of_ble_eq_true rfl)) dX1_segment_38 ⟨(Nat.le_of_ble_eq_true rfl), (Nat.le_of_ble_eq_true rfl)⟩) hS (fun _ h => h) (fun r H9 locs hq hz9 hF9 hS => ?_)
    obtain ⟨hX, hr, hf9⟩ := hq
    have hP := bP_keep hP (fun x hx => hf9 (ad x) (bP_lt hP x hx))
    have hr : ∀ x, bk_dom n x → ¬ bk_box x → r ≠ ad x := fun x hx hb ex => hr.elim (fun h => absurd (bP_lt hPo x hx) (by omega)) (fun h => h (by rw [ex]; exact hJ.2 x hx hb))
    clear hPo hf9 hF9
    have hS9 := hS
    have hL1 : bk_dom n 8 ∧ ¬ bk_box 8 := ⟨by unfold bk_dom; omega, by unfold bk_box; omega⟩
    have hE1 : 0 < n 1 → bk_dom n 11 ∧ ¬ bk_box 11 := fun z => ⟨by unfold bk_dom; omega, by unfold bk_box; omega⟩
    refine xe_ci5 (A1 := b_A1 H9.size (ad 8) (ad 11) (n 1)) (va_runF (As := [.ref r]) (rest := []) (hK.1.1 5 (RJ2, TJ2, 3) rfl).2 ⟨hx, hb, hml, hown, hts⟩ (e_add l D (b_A1 H9.size (ad 8) (ad 11) (n 1)) 6 rfl q1050 H9.size (ad 8) r (ad 11) (n 1) (fun j => ad (30 + j)) (Or.inr (Or.inl rfl)) (b_A1r hX.lt hr hL1 hE1) (by omega) (fun z => ⟨Or.inr (Or.inr ⟨z, rfl⟩), fun z2 => absurd ((hJ.1 11 8 (hE1 z).1 hL1.1 z2).resolve_right (fun z3 => hL1.2 z3.2)) (by decide)⟩) (bP_lt hP 8 hL1.1)) (va_cwF 1 hts (xk_lwF q379 q382 q384 q40 q386) rfl rfl rfl hK.2.2.2.2.1 (by decide +kernel) ⟨Nat.le_of_ble_eq_true rfl, Nat.le_of_ble_eq_true rfl⟩) (xe_preV hK (hE.at hS (b_A1s hJ (fun q h => hA q (Nat.le_trans hS.1 h)) hL1 hE1)) ⟨rfl, bsg hP, hX.el, fun i hi => ⟨b_A1n hJ (by unfold bk_dom; omega) (bP_lt hP _ (by unfold bk_dom; omega)) hL1 hE1 (by omega) (by omega), (bxs hP i hi).el⟩⟩ (fun q h => Or.inl h) (xk_recvL hK (bsg hP))) rfl rfl hl.1 rfl (lv_room (Nat.le_of_ble_eq_true rfl)) dX1_segment_41 ⟨Nat.le_of_ble_eq_true rfl, Nat.le_of_ble_eq_true rfl⟩) hS (b_A1s hJ (fun q h => hA q (Nat.le_trans hS.1 h)) hL1 hE1) (fun r2 H locs hq hz hF hS => ?_)
    obtain ⟨rfl, d', hd', hL⟩ := hq
    obtain ⟨ad9, e9, hJ9, hP⟩ := b_segAfter hJ hn0 (by omega) (fun q h => hA q (Nat.le_trans hS9.1 h)) hP hX hr hF hd' hL
    have hP : bP D ad9 (ad9 100) (va_up (va_up σ 3 (upd (σ 3) (n 1) (x))) 4 (upd (σ 4) (n 1) (y))) nw (va_up n 1 (n 1 + 1)) H := hP
    have hl : lv_has ls 3 [(0, .ref (ad9 0)), (1, .int x), (2, .int y)] := by rw [e9]; exact hl
    refine lv_pop hx hb dX1_segment_46 rfl ?_
    refine lv_aload_n hx hb dX1_segment_47 rfl (lv_at hl 0 rfl) ?_
    refine xk_getO hAt hK (b0 hP) (C := RX1) (T := TX1) (N := 6) rfl 3 (by decide) (v := .ref (ad9 8)) rfl (hts _ q140) (fun _ h => h) in_X1 dX1_segment_48 ?_
    refine xk_ciF hAt hK (P := bP D ad9 (ad9 100) (va_up (va_up σ 3 (upd (σ 3) (n 1) (x))) 4 (upd (σ 4) (n 1) (y))) nw (va_up n 1 (n 1 + 1))) hP hA hS (xk_recvL hK (bsg hP)) (As := []) (rest := []) (al_size l D A (bP D ad9 (ad9 100) (va_up (va_up σ 3 (upd (σ 3) (n 1) (x))) 4 (upd (σ 4) (n 1) (y))) nw (va_up n 1 (n 1 + 1))) (ad9 8) (ad9 11) (n 1 + 1) (fun j => ad9 (30 + j)) (fun _ h => bsg (n := va_up n 1 (n 1 + 1)) h)) (va_cwF 0 hts (xk_lwF q236 q240 q242 q40 q244) rfl rfl rfl hK.2.2.1 (by decide +kernel) ⟨Nat.le_of_ble_eq_true rfl, Nat.le_of_ble_eq_true rfl⟩) rfl hl.1 rfl (Nat.le_of_ble_eq_true rfl) dX1_segment_51 ⟨Nat.le_of_ble_eq_true rfl, Nat.le_of_ble_eq_true rfl⟩ (fun r H locs hq hS => ?_)
    obtain ⟨rfl, hP⟩ := hq
    refine lv_iconst (v := 1) hx hb dX1_segment_56 (by decide) ?_
    refine lv_isub hx hb dX1_segment_57 ?_
    refine xk_to (y := nI (n 1)) (nI_pred (n 1)) ?_
    exact hR _ _ _ _ _ dX1_segment_58 ⟨rfl, ad9, e9, hJ9, hP⟩ hS
  refine mk_ge (tgt := 25) (a := n 1) (b := 4) hx hb (by omega) (by omega) dX1_segment_18 (by decide) (fun c_1 => ?_) (fun c_1 => ?_)
  · skip
    refine lv_iconst (v := 0) hx hb dX1_segment_25 (by decide) ?_
    exact J26_2 _ _ _ 0 ((if_neg (fun h => h c_1)).symm) hP hS (lv_sub hl [0, 1, 2] rfl)
  refine lv_iconst (v := 1) hx hb dX1_segment_21 (by decide) ?_
  refine lv_goto (tgt := 26) hx hb dX1_segment_22 (by decide) ?_
  exact J26_2 _ _ _ 1 ((if_pos (Nat.not_le.mpr c_1)).symm) hP hS (lv_sub hl [0, 1, 2] rfl)
set_option maxHeartbeats 4000000 in
theorem a_joint (l : Launch) (D : xk_G) (A : Nat → Prop) (ad : Nat → Nat) (σ : Nat → Nat → Int32) (nw : Nat → Int32) (n : Nat → Nat) (hJ : bk_ok A ad n) (hn0 : bk_n n) (x : Int32) (hx0 : mk_in x 0 3) (hst : ¬ (4 ≤ n 2)) : Met l yX1_joint (ws_ yX1_joint cX1_joint 2 (some .int)) (xk_Rm 8 300 2 91) (xe_Pre D A (bP D ad (ad 100) σ nw n) [.ref (ad 0), .int x]) (xk_Pi A (fun r H => r = nI (n 2) ∧ ∃ ad9 : Nat → Nat, ad9 0 = ad 0 ∧ bk_ok A ad9 (va_up n 2 (n 2 + 1)) ∧ bP D ad9 (ad9 100) (va_up σ 5 (upd (σ 5) (n 2) x)) nw (va_up n 2 (n 2 + 1)) H)) 2 91 A := by
  refine xe_startI (by decide +kernel) (Nat.le_of_ble_eq_true rfl) ?_
  intro p e s m args below meth c Q hAt hin hK hE hA hP hR ls hl
  obtain ⟨hx, hb, hml, hown, hts⟩ := id hAt
  have hl : lv_has ls 2 [(0, .ref (ad 0)), (1, .int x)] := hl
  have hS : va_S A s.heap s.heap [] := va_S.rf
  obtain ⟨h0m, h1m, h2m, h3m, h4m⟩ := id hn0
  refine lv_iload_n hx hb dX1_joint_0 rfl (lv_at hl 1 rfl) ?_
  refine xk_cvS hAt hK (P := bP D ad (ad 100) σ nw n) hP hA hS (As := [.int x]) (rest := []) (b_checkLetter l D A (bP D ad (ad 100) σ nw n) x (by assumption)) (va_cwS 1 hts (lw_S q311 q312 q37 q313) rfl rfl rfl cdX1_checkLetter ⟨Nat.le_of_ble_eq_true rfl, Nat.le_of_ble_eq_true rfl⟩) rfl hl.1 rfl (Nat.le_of_ble_eq_true rfl) dX1_joint_1 ⟨Nat.le_of_ble_eq_true rfl, Nat.le_of_ble_eq_true rfl⟩ (fun H locs hP hS => ?_)
  refine lv_aload_n hx hb dX1_joint_4 rfl (lv_at hl 0 rfl) ?_
  refine xk_getO hAt hK (b0 hP) (C := RX1) (T := TX1) (N := 6) rfl 4 (by decide) (v := .ref (ad 9)) rfl (hts _ q141) (fun _ h => h) in_X1 dX1_joint_5 ?_
  refine xk_ciF hAt hK (P := bP D ad (ad 100) σ nw n) hP hA hS (xk_recvL hK (bjo hP)) (As := []) (rest := []) (al_size l D A (bP D ad (ad 100) σ nw n) (ad 9) (ad 12) (n 2) (fun j => ad (40 + j)) (fun _ h => bjo h)) (va_cwF 0 hts (xk_lwF q236 q240 q242 q40 q244) rfl rfl rfl hK.2.2.1 (by decide +kernel) ⟨Nat.le_of_ble_eq_true rfl, Nat.le_of_ble_eq_true rfl⟩) rfl hl.1 rfl (Nat.le_of_ble_eq_true rfl) dX1_joint_8 ⟨Nat.le_of_ble_eq_true rfl, Nat.le_of_ble_eq_true rfl⟩ (fun r H locs hq hS => ?_)
  obtain ⟨rfl, hP⟩ := hq
  refine lv_iconst (v := 4) hx hb dX1_joint_13 (by decide) ?_
  have J22_2 : ∀ (H : Heap) (locs : List Loc) (ls : Array Slot) (t0 : Int32), t0 = xk_b (¬ (4 ≤ n 2)) → bP D ad (ad 100) σ nw n H → va_S A s.heap H locs → lv_has ls 2 [(0, .ref (ad 0)), (1, .int x)] → W p l e (xk_Rm 8 300 2 91) s m args below meth c H locs 0 0 Q (F0 m 22 ls [.int t0]) := by
    intro H locs ls t0 et0 hP hS hl
    subst et0
    refine xk_cvS hAt hK (P := bP D ad (ad 100) σ nw n) hP hA hS (As := [.int (xk_b (¬ (4 ≤ n 2)))]) (rest := []) (b_checkState l D A (bP D ad (ad 100) σ nw n) (¬ (4 ≤ n 2)) (by assumption)) (va_cwS 1 hts (lw_S q340 q341 q37 q342) rfl rfl rfl cdX1_checkState ⟨Nat.le_of_ble_eq_true rfl, Nat.le_of_ble_eq_true rfl⟩) rfl hl.1 rfl (Nat.le_of_ble_eq_true rfl) dX1_joint_22 ⟨Nat.le_of_ble_eq_true rfl, Nat.le_of_ble_eq_true rfl⟩ (fun H locs hP hS => ?_)
    refine lv_aload_n hx hb dX1_joint_25 rfl (lv_at hl 0 rfl) ?_
    refine xk_getO hAt hK (b0 hP) (C := RX1) (T := TX1) (N := 6) rfl 4 (by decide) (v := .ref (ad 9)) rfl (hts _ q141) (fun _ h => h) in_X1 dX1_joint_26 ?_
    refine lv_iload_n hx hb dX1_joint_29 rfl (lv_at hl 1 rfl) ?_
    have hPo := hP
    refine xe_cr (A1 := A) (va_runS (As := [.int x]) (rest := [.ref (ad 9)]) ⟨hx, hb, hml, hown, hts⟩ (e_valueOf l D A H x) (va_cwS 1 hts (lw_S q358 q359 q49 q360) rfl rfl rfl cdJ9_valueOf ⟨Nat.le_of_ble_eq_true rfl, Nat.le_of_ble_eq_true rfl⟩) (xe_preS hK (hE.at hS (fun _ h => h)) rfl (fun q h => hA q (Nat.le_trans hS.1 h))) rfl rfl hl.1 rfl (lv_room (Nat.le_of_ble_eq_true rfl)) dX1_joint_30 ⟨(Nat.le_of_ble_eq_true rfl), (Nat.le_of_ble_eq_true rfl)⟩) hS (fun _ h => h) (fun r H9 locs hq hz9 hF9 hS => ?_)
    obtain ⟨hX, hr, hf9⟩ := hq
    have hP := bP_keep hP (fun x hx => hf9 (ad x) (bP_lt hP x hx))
    have hr : ∀ x, bk_dom n x → ¬ bk_box x → r ≠ ad x := fun x hx hb ex => hr.elim (fun h => absurd (bP_lt hPo x hx) (by omega)) (fun h => h (by rw [ex]; exact hJ.2 x hx hb))
    clear hPo hf9 hF9
    have hS9 := hS
    have hL1 : bk_dom n 9 ∧ ¬ bk_box 9 := ⟨by unfold bk_dom; omega, by unfold bk_box; omega⟩
    have hE1 : 0 < n 2 → bk_dom n 12 ∧ ¬ bk_box 12 := fun z => ⟨by unfold bk_dom; omega, by unfold bk_box; omega⟩
    refine xe_ci5 (A1 := b_A1 H9.size (ad 9) (ad 12) (n 2)) (va_runF (As := [.ref r]) (rest := []) (hK.1.1 5 (RJ2, TJ2, 3) rfl).2 ⟨hx, hb, hml, hown, hts⟩ (e_add l D (b_A1 H9.size (ad 9) (ad 12) (n 2)) 6 rfl q1050 H9.size (ad 9) r (ad 12) (n 2) (fun j => ad (40 + j)) (Or.inr (Or.inl rfl)) (b_A1r hX.lt hr hL1 hE1) (by omega) (fun z => ⟨Or.inr (Or.inr ⟨z, rfl⟩), fun z2 => absurd ((hJ.1 12 9 (hE1 z).1 hL1.1 z2).resolve_right (fun z3 => hL1.2 z3.2)) (by decide)⟩) (bP_lt hP 9 hL1.1)) (va_cwF 1 hts (xk_lwF q379 q382 q384 q40 q386) rfl rfl rfl hK.2.2.2.2.1 (by decide +kernel) ⟨Nat.le_of_ble_eq_true rfl, Nat.le_of_ble_eq_true rfl⟩) (xe_preV hK (hE.at hS (b_A1s hJ (fun q h => hA q (Nat.le_trans hS.1 h)) hL1 hE1)) ⟨rfl, bjo hP, hX.el, fun i hi => ⟨b_A1n hJ (by unfold bk_dom; omega) (bP_lt hP _ (by unfold bk_dom; omega)) hL1 hE1 (by omega) (by omega), (bxj hP i hi).el⟩⟩ (fun q h => Or.inl h) (xk_recvL hK (bjo hP))) rfl rfl hl.1 rfl (lv_room (Nat.le_of_ble_eq_true rfl)) dX1_joint_33 ⟨Nat.le_of_ble_eq_true rfl, Nat.le_of_ble_eq_true rfl⟩) hS (b_A1s hJ (fun q h => hA q (Nat.le_trans hS.1 h)) hL1 hE1) (fun r2 H locs hq hz hF hS => ?_)
    obtain ⟨rfl, d', hd', hL⟩ := hq
    obtain ⟨ad9, e9, hJ9, hP⟩ := b_jointAfter hJ hn0 (by omega) (fun q h => hA q (Nat.le_trans hS9.1 h)) hP hX hr hF hd' hL
    have hP : bP D ad9 (ad9 100) (va_up σ 5 (upd (σ 5) (n 2) (x))) nw (va_up n 2 (n 2 + 1)) H := hP
    have hl : lv_has ls 2 [(0, .ref (ad9 0)), (1, .int x)] := by rw [e9]; exact hl
    refine lv_pop hx hb dX1_joint_38 rfl ?_
    refine lv_aload_n hx hb dX1_joint_39 rfl (lv_at hl 0 rfl) ?_
    refine xk_getO hAt hK (b0 hP) (C := RX1) (T := TX1) (N := 6) rfl 4 (by decide) (v := .ref (ad9 9)) rfl (hts _ q141) (fun _ h => h) in_X1 dX1_joint_40 ?_
    refine xk_ciF hAt hK (P := bP D ad9 (ad9 100) (va_up σ 5 (upd (σ 5) (n 2) (x))) nw (va_up n 2 (n 2 + 1))) hP hA hS (xk_recvL hK (bjo hP)) (As := []) (rest := []) (al_size l D A (bP D ad9 (ad9 100) (va_up σ 5 (upd (σ 5) (n 2) (x))) nw (va_up n 2 (n 2 + 1))) (ad9 9) (ad9 12) (n 2 + 1) (fun j => ad9 (40 + j)) (fun _ h => bjo (n := va_up n 2 (n 2 + 1)) h)) (va_cwF 0 hts (xk_lwF q236 q240 q242 q40 q244) rfl rfl rfl hK.2.2.1 (by decide +kernel) ⟨Nat.le_of_ble_eq_true rfl, Nat.le_of_ble_eq_true rfl⟩) rfl hl.1 rfl (Nat.le_of_ble_eq_true rfl) dX1_joint_43 ⟨Nat.le_of_ble_eq_true rfl, Nat.le_of_ble_eq_true rfl⟩ (fun r H locs hq hS => ?_)
    obtain ⟨rfl, hP⟩ := hq
    refine lv_iconst (v := 1) hx hb dX1_joint_48 (by decide) ?_
    refine lv_isub hx hb dX1_joint_49 ?_
    refine xk_to (y := nI (n 2)) (nI_pred (n 2)) ?_
    exact hR _ _ _ _ _ dX1_joint_50 ⟨rfl, ad9, e9, hJ9, hP⟩ hS
  refine mk_ge (tgt := 21) (a := n 2) (b := 4) hx hb (by omega) (by omega) dX1_joint_14 (by decide) (fun c_1 => ?_) (fun c_1 => ?_)
  · skip
    refine lv_iconst (v := 0) hx hb dX1_joint_21 (by decide) ?_
    exact J22_2 _ _ _ 0 ((if_neg (fun h => h c_1)).symm) hP hS (lv_sub hl [0, 1] rfl)
  refine lv_iconst (v := 1) hx hb dX1_joint_17 (by decide) ?_
  refine lv_goto (tgt := 22) hx hb dX1_joint_18 (by decide) ?_
  exact J22_2 _ _ _ 1 ((if_pos (Nat.not_le.mpr c_1)).symm) hP hS (lv_sub hl [0, 1] rfl)
