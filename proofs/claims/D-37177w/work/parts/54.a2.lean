/-! THE BODY's methods that make cells: invade (printed by gen/model.py) -/
set_option maxRecDepth 100000
set_option maxHeartbeats 4000000 in
theorem a_invade (l : Launch) (D : xk_G) (A : Nat → Prop) (ad : Nat → Nat) (σ : Nat → Nat → Int32) (nw : Nat → Int32) (n : Nat → Nat) (hJ : bk_ok A ad n) (hn0 : bk_n n) (x y z : Int32) (hx0 : mk_in x 0 255) (hy0 : mk_in y 1 999) (hz0 : mk_in z (-1) 9) (hst : ¬ (8 ≤ n 4)) : Met l yX1_invade (ws_ yX1_invade cX1_invade 4 (some .int)) (xk_Rm 8 300 2 95) (xe_Pre D A (bP D ad (ad 100) σ nw n) [.ref (ad 0), .int x, .int y, .int z]) (xk_Pi A (fun r H => r = nI (n 4) ∧ ∃ ad9 : Nat → Nat, ad9 0 = ad 0 ∧ bk_ok A ad9 (va_up n 4 (n 4 + 1)) ∧ bP D ad9 (ad9 100) (va_up (va_up σ 9 (upd (σ 9) (n 4) x)) 10 (upd (σ 10) (n 4) z)) (upd (upd (upd nw (120 + n 4) y) (128 + n 4) (-1)) (136 + n 4) y) (va_up n 4 (n 4 + 1)) H)) 2 95 A := by
  refine xe_startI (by decide +kernel) (Nat.le_of_ble_eq_true rfl) ?_
  intro p e s m args below meth c Q hAt hin hK hE hA hP hR ls hl
  obtain ⟨hx, hb, hml, hown, hts⟩ := id hAt
  have hl : lv_has ls 4 [(0, .ref (ad 0)), (1, .int x), (2, .int y), (3, .int z)] := hl
  have hS : va_S A s.heap s.heap [] := va_S.rf
  obtain ⟨h0m, h1m, h2m, h3m, h4m⟩ := id hn0
  refine lv_iload_n hx hb dX1_invade_0 rfl (lv_at hl 1 rfl) ?_
  refine xk_cvS hAt hK (P := bP D ad (ad 100) σ nw n) hP hA hS (As := [.int x]) (rest := []) (b_checkWord l D A (bP D ad (ad 100) σ nw n) x (by assumption)) (va_cwS 1 hts (lw_S q164 q165 q37 q166) rfl rfl rfl cdX1_checkWord ⟨Nat.le_of_ble_eq_true rfl, Nat.le_of_ble_eq_true rfl⟩) rfl hl.1 rfl (Nat.le_of_ble_eq_true rfl) dX1_invade_1 ⟨Nat.le_of_ble_eq_true rfl, Nat.le_of_ble_eq_true rfl⟩ (fun H locs hP hS => ?_)
  refine lv_iload_n hx hb dX1_invade_4 rfl (lv_at hl 2 rfl) ?_
  refine lv_iconst (v := 1) hx hb dX1_invade_5 (by decide) ?_
  refine lv_sipush (v := 999) hx hb dX1_invade_6 (by decide) ?_
  refine xk_cvS hAt hK (P := bP D ad (ad 100) σ nw n) hP hA hS (As := [.int y, .int 1, .int 999]) (rest := []) (b_check l D A (bP D ad (ad 100) σ nw n) y 1 999 (by assumption)) (va_cwS 3 hts (lw_S q167 q168 q37 q169) rfl rfl rfl cdX1_check ⟨Nat.le_of_ble_eq_true rfl, Nat.le_of_ble_eq_true rfl⟩) rfl hl.1 rfl (Nat.le_of_ble_eq_true rfl) dX1_invade_9 ⟨Nat.le_of_ble_eq_true rfl, Nat.le_of_ble_eq_true rfl⟩ (fun H locs hP hS => ?_)
  refine lv_iload_n hx hb dX1_invade_12 rfl (lv_at hl 3 rfl) ?_
  refine lv_iconst (v := (-1)) hx hb dX1_invade_13 (by decide) ?_
  refine lv_bipush (v := 9) hx hb dX1_invade_14 (by decide) ?_
  refine xk_cvS hAt hK (P := bP D ad (ad 100) σ nw n) hP hA hS (As := [.int z, .int (-1), .int 9]) (rest := []) (b_check l D A (bP D ad (ad 100) σ nw n) z (-1) 9 (by assumption)) (va_cwS 3 hts (lw_S q167 q168 q37 q169) rfl rfl rfl cdX1_check ⟨Nat.le_of_ble_eq_true rfl, Nat.le_of_ble_eq_true rfl⟩) rfl hl.1 rfl (Nat.le_of_ble_eq_true rfl) dX1_invade_16 ⟨Nat.le_of_ble_eq_true rfl, Nat.le_of_ble_eq_true rfl⟩ (fun H locs hP hS => ?_)
  refine lv_aload_n hx hb dX1_invade_19 rfl (lv_at hl 0 rfl) ?_
  refine xk_getO hAt hK (b0 hP) (C := RX1) (T := TX1) (N := 6) rfl 5 (by decide) (v := .ref (ad 100)) rfl (hts _ q142) (fun _ h => h) in_X1 dX1_invade_20 ?_
  refine xk_getN hAt hK (b100 hP) (C := RX2) (T := TX2) (N := 7) rfl 1 (by decide) (v := .ref (ad 102)) rfl q112 (fun _ h => h) in_X2 dX1_invade_23 ?_
  refine xk_ciF hAt hK (P := bP D ad (ad 100) σ nw n) hP hA hS (xk_recvL hK (bvl hP)) (As := []) (rest := []) (al_size l D A (bP D ad (ad 100) σ nw n) (ad 102) (ad 105) (n 4) (fun j => ad (110 + j)) (fun _ h => bvl h)) (va_cwF 0 hts (xk_lwF q236 q240 q242 q40 q244) rfl rfl rfl hK.2.2.1 (by decide +kernel) ⟨Nat.le_of_ble_eq_true rfl, Nat.le_of_ble_eq_true rfl⟩) rfl hl.1 rfl (Nat.le_of_ble_eq_true rfl) dX1_invade_26 ⟨Nat.le_of_ble_eq_true rfl, Nat.le_of_ble_eq_true rfl⟩ (fun r H locs hq hS => ?_)
  obtain ⟨rfl, hP⟩ := hq
  refine lv_bipush (v := 8) hx hb dX1_invade_31 (by decide) ?_
  have J41_2 : ∀ (H : Heap) (locs : List Loc) (ls : Array Slot) (t0 : Int32), t0 = xk_b (¬ (8 ≤ n 4)) → bP D ad (ad 100) σ nw n H → va_S A s.heap H locs → lv_has ls 4 [(0, .ref (ad 0)), (1, .int x), (2, .int y), (3, .int z)] → W p l e (xk_Rm 8 300 2 95) s m args below meth c H locs 0 0 Q (F0 m 41 ls [.int t0]) := by
    intro H locs ls t0 et0 hP hS hl
    subst et0
    refine xk_cvS hAt hK (P := bP D ad (ad 100) σ nw n) hP hA hS (As := [.int (xk_b (¬ (8 ≤ n 4)))]) (rest := []) (b_checkState l D A (bP D ad (ad 100) σ nw n) (¬ (8 ≤ n 4)) (by assumption)) (va_cwS 1 hts (lw_S q340 q341 q37 q342) rfl rfl rfl cdX1_checkState ⟨Nat.le_of_ble_eq_true rfl, Nat.le_of_ble_eq_true rfl⟩) rfl hl.1 rfl (Nat.le_of_ble_eq_true rfl) dX1_invade_41 ⟨Nat.le_of_ble_eq_true rfl, Nat.le_of_ble_eq_true rfl⟩ (fun H locs hP hS => ?_)
    refine lv_aload_n hx hb dX1_invade_44 rfl (lv_at hl 0 rfl) ?_
    refine xk_getO hAt hK (b0 hP) (C := RX1) (T := TX1) (N := 6) rfl 5 (by decide) (v := .ref (ad 100)) rfl (hts _ q142) (fun _ h => h) in_X1 dX1_invade_45 ?_
    refine xk_getN hAt hK (b100 hP) (C := RX2) (T := TX2) (N := 7) rfl 1 (by decide) (v := .ref (ad 102)) rfl q112 (fun _ h => h) in_X2 dX1_invade_48 ?_
    have hS0 := hS
    refine xe_new hAt hK hS (ci := 4) (C := RX5) (T := TX5) (N := 5) in_X5 tyX5 tyX5_ok (hts _ q595) (hts _ q596) (hts _ q61) rfl (fs := [.int 0, .int 0, .int 0, .int 0, .int 0]) e_dfX5 (Nat.le_of_ble_eq_true rfl) (Nat.le_of_ble_eq_true rfl) dX1_invade_51 (fun q5 H5 eq5 hO hz5 hF5 hS => ?_)
    have hq5 : ∀ x, bk_dom n x → q5 ≠ ad x := fun x hx z => by rw [eq5] at z; exact absurd (bP_lt hP x hx) (by omega)
    have hA5 : A q5 := hA q5 (by rw [eq5]; exact hS0.1)
    have hP := bP_keep hP (fun x hx => hF5 (ad x) (bP_lt hP x hx))
    refine lv_dup hx hb dX1_invade_54 rfl ?_
    refine lv_iload_n hx hb dX1_invade_55 rfl (lv_at hl 1 rfl) ?_
    refine lv_iload_n hx hb dX1_invade_56 rfl (lv_at hl 2 rfl) ?_
    refine lv_iload_n hx hb dX1_invade_57 rfl (lv_at hl 3 rfl) ?_
    refine xe_cv (A1 := (fun x => x = q5 ∨ H5.size ≤ x)) (va_runI (As := [.int x, .int y, .int z]) (rest := [.ref q5, .ref (ad 102)]) ⟨hx, hb, hml, hown, hts⟩ (e_invInit l D (fun x => x = q5 ∨ H5.size ≤ x) q5 (Or.inl rfl) x y z) (cwI 3 hts (lw_meth q599) rfl rfl rfl (hts _ q61) (hts _ q597) (hts _ q598) rfl (by decide +kernel) ⟨Nat.le_of_ble_eq_true rfl, Nat.le_of_ble_eq_true rfl⟩) (xk_preS hK hO (fun q h => Or.inr h)) rfl rfl hl.1 rfl (lv_room (Nat.le_of_ble_eq_true rfl)) dX1_invade_58 ⟨(Nat.le_of_ble_eq_true rfl), (Nat.le_of_ble_eq_true rfl)⟩) hS (fun w h => h.elim (fun z => by rw [z]; exact hA5) (fun z => hA w (Nat.le_trans hS.1 z))) (fun H9 locs hO hz6 hF6 hS => ?_)
    have hP := bP_keep hP (fun x hx => hF6 (ad x) (bP_lt hP x hx) (fun z => z.elim (fun z => hq5 x hx z.symm) (fun z => absurd (bP_lt hP x hx) (Nat.not_lt.mpr z))))
    have hS9 := hS
    have hL1 : bk_dom n 102 ∧ ¬ bk_box 102 := ⟨by unfold bk_dom; omega, by unfold bk_box; omega⟩
    have hE1 : 0 < n 4 → bk_dom n 105 ∧ ¬ bk_box 105 := fun z => ⟨by unfold bk_dom; omega, by unfold bk_box; omega⟩
    refine xe_ci5 (A1 := b_A1 H9.size (ad 102) (ad 105) (n 4)) (va_runF (As := [.ref q5]) (rest := []) (hK.1.1 5 (RJ2, TJ2, 3) rfl).2 ⟨hx, hb, hml, hown, hts⟩ (e_add l D (b_A1 H9.size (ad 102) (ad 105) (n 4)) 4 rfl q1054 H9.size (ad 102) q5 (ad 105) (n 4) (fun j => ad (110 + j)) (Or.inr (Or.inl rfl)) (b_A1q hO.lt hq5 hL1.1 (fun z => (hE1 z).1)) (by omega) (fun z => ⟨Or.inr (Or.inr ⟨z, rfl⟩), fun z2 => absurd ((hJ.1 105 102 (hE1 z).1 hL1.1 z2).resolve_right (fun z3 => hL1.2 z3.2)) (by decide)⟩) (bP_lt hP 102 hL1.1)) (va_cwF 1 hts (xk_lwF q379 q382 q384 q40 q386) rfl rfl rfl hK.2.2.2.2.1 (by decide +kernel) ⟨Nat.le_of_ble_eq_true rfl, Nat.le_of_ble_eq_true rfl⟩) (xe_preV hK (hE.at hS (b_A1s hJ (fun q h => hA q (Nat.le_trans hS.1 h)) hL1 hE1)) ⟨rfl, bvl hP, hO.el, fun i hi => ⟨b_A1n hJ (by unfold bk_dom; omega) (bP_lt hP _ (by unfold bk_dom; omega)) hL1 hE1 (by omega) (by omega), (binv hP i hi).el⟩⟩ (fun q h => Or.inl h) (xk_recvL hK (bvl hP))) rfl rfl hl.1 rfl (lv_room (Nat.le_of_ble_eq_true rfl)) dX1_invade_61 ⟨Nat.le_of_ble_eq_true rfl, Nat.le_of_ble_eq_true rfl⟩) hS (b_A1s hJ (fun q h => hA q (Nat.le_trans hS.1 h)) hL1 hE1) (fun r2 H locs hq hz hF hS => ?_)
    obtain ⟨rfl, d', hd', hL⟩ := hq
    obtain ⟨ad9, e9, e100, eq9, hJ9, hP⟩ := b_invdAfter hJ hn0 (by omega) (fun q h => hA q (Nat.le_trans hS9.1 h)) hP hO hq5 hA5 hF hd' hL
    have hP : bP D ad9 (ad9 100) (va_up (va_up σ 9 (upd (σ 9) (n 4) x)) 10 (upd (σ 10) (n 4) z)) (upd (upd (upd nw (120 + n 4) y) (128 + n 4) (-1)) (136 + n 4) y) (va_up n 4 (n 4 + 1)) H := hP
    have hl : lv_has ls 4 [(0, .ref (ad9 0)), (1, .int x), (2, .int y), (3, .int z)] := by rw [e9]; exact hl
    refine lv_pop hx hb dX1_invade_66 rfl ?_
    refine lv_aload_n hx hb dX1_invade_67 rfl (lv_at hl 0 rfl) ?_
    refine xk_getO hAt hK (b0 hP) (C := RX1) (T := TX1) (N := 6) rfl 5 (by decide) (v := .ref (ad9 100)) rfl (hts _ q142) (fun _ h => h) in_X1 dX1_invade_68 ?_
    refine xk_getN hAt hK (b100 hP) (C := RX2) (T := TX2) (N := 7) rfl 1 (by decide) (v := .ref (ad9 102)) rfl q112 (fun _ h => h) in_X2 dX1_invade_71 ?_
    refine xk_ciF hAt hK (P := bP D ad9 (ad9 100) (va_up (va_up σ 9 (upd (σ 9) (n 4) x)) 10 (upd (σ 10) (n 4) z)) (upd (upd (upd nw (120 + n 4) y) (128 + n 4) (-1)) (136 + n 4) y) (va_up n 4 (n 4 + 1))) hP hA hS (xk_recvL hK (bvl hP)) (As := []) (rest := []) (al_size l D A (bP D ad9 (ad9 100) (va_up (va_up σ 9 (upd (σ 9) (n 4) x)) 10 (upd (σ 10) (n 4) z)) (upd (upd (upd nw (120 + n 4) y) (128 + n 4) (-1)) (136 + n 4) y) (va_up n 4 (n 4 + 1))) (ad9 102) (ad9 105) (n 4 + 1) (fun j => ad9 (110 + j)) (fun _ h => bvl (n := va_up n 4 (n 4 + 1)) h)) (va_cwF 0 hts (xk_lwF q236 q240 q242 q40 q244) rfl rfl rfl hK.2.2.1 (by decide +kernel) ⟨Nat.le_of_ble_eq_true rfl, Nat.le_of_ble_eq_true rfl⟩) rfl hl.1 rfl (Nat.le_of_ble_eq_true rfl) dX1_invade_74 ⟨Nat.le_of_ble_eq_true rfl, Nat.le_of_ble_eq_true rfl⟩ (fun r H locs hq hS => ?_)
    obtain ⟨rfl, hP⟩ := hq
    refine lv_iconst (v := 1) hx hb dX1_invade_79 (by decide) ?_
    refine lv_isub hx hb dX1_invade_80 ?_
    refine xk_to (y := nI (n 4)) (nI_pred (n 4)) ?_
    exact hR _ _ _ _ _ dX1_invade_81 ⟨rfl, ad9, e9, hJ9, hP⟩ hS
  refine mk_ge (tgt := 40) (a := n 4) (b := 8) hx hb (by omega) (by omega) dX1_invade_33 (by decide) (fun c_1 => ?_) (fun c_1 => ?_)
  · skip
    refine lv_iconst (v := 0) hx hb dX1_invade_40 (by decide) ?_
    exact J41_2 _ _ _ 0 ((if_neg (fun h => h c_1)).symm) hP hS (lv_sub hl [0, 1, 2, 3] rfl)
  refine lv_iconst (v := 1) hx hb dX1_invade_36 (by decide) ?_
  refine lv_goto (tgt := 41) hx hb dX1_invade_37 (by decide) ?_
  exact J41_2 _ _ _ 1 ((if_pos (Nat.not_le.mpr c_1)).symm) hP hS (lv_sub hl [0, 1, 2, 3] rfl)
set_option maxHeartbeats 4000000 in
theorem a_mark (l : Launch) (D : xk_G) (A : Nat → Prop) (ad : Nat → Nat) (σ : Nat → Nat → Int32) (nw : Nat → Int32) (n : Nat → Nat) (hJ : bk_ok A ad n) (hn0 : bk_n n) (a : Nat) (ha : a ≤ 4) (v : Int32) (hv0 : mk_in v (xk_LM a) (xk_MM a)) : Met l yX1_mark (ws_ yX1_mark cX1_mark 4 (some .int)) (xk_Rm 8 300 0 0) (xe_Pre D A (bP D ad (ad 100) σ nw n) [.ref (ad 0), .int (nI a), .int v]) (xk_Pi A (fun r H => r = σ 1 a ∧ bP D ad (ad 100) (va_up σ 1 (upd (σ 1) a v)) nw n H)) 0 0 A := by
  refine xe_startI (by decide +kernel) (Nat.le_of_ble_eq_true rfl) ?_
  intro p e s m args below meth c Q hAt hin hK hE hA hP hR ls hl
  obtain ⟨hx, hb, hml, hown, hts⟩ := id hAt
  have hl : lv_has ls 4 [(0, .ref (ad 0)), (1, .int (nI a)), (2, .int v)] := hl
  have hS : va_S A s.heap s.heap [] := va_S.rf
  obtain ⟨h0m, h1m, h2m, h3m, h4m⟩ := id hn0
  obtain ⟨t1, z1, T1⟩ := id hE.2.1
  obtain ⟨t2, z2, T2⟩ := id hE.2.2.1
  refine lv_iload_n hx hb dX1_mark_0 rfl (lv_at hl 1 rfl) ?_
  refine lv_iconst (v := 0) hx hb dX1_mark_1 (by decide) ?_
  refine lv_iconst (v := 4) hx hb dX1_mark_2 (by decide) ?_
  refine xk_cvS hAt hK (P := bP D ad (ad 100) σ nw n) hP hA hS (As := [.int (nI a), .int 0, .int 4]) (rest := []) (b_check l D A (bP D ad (ad 100) σ nw n) (nI a) 0 4 (mk_inP (k := 4) (by omega) (by omega))) (va_cwS 3 hts (lw_S q167 q168 q37 q169) rfl rfl rfl cdX1_check ⟨Nat.le_of_ble_eq_true rfl, Nat.le_of_ble_eq_true rfl⟩) rfl hl.1 rfl (Nat.le_of_ble_eq_true rfl) dX1_mark_3 ⟨Nat.le_of_ble_eq_true rfl, Nat.le_of_ble_eq_true rfl⟩ (fun H locs hP hS => ?_)
  refine lv_iload_n hx hb dX1_mark_6 rfl (lv_at hl 2 rfl) ?_
  refine va_gets hx hb z1 hS hown (hts _ q328) (fun _ h => h) dX1_mark_7 ?_
  refine lv_iload_n hx hb dX1_mark_10 rfl (lv_at hl 1 rfl) ?_
  refine va_ti hx hb T1 hS (vp_in_nI (show a < 5 by omega) (by decide)) (v := .int (xk_LM a)) (by rw [nI_clamp (by omega)]) dX1_mark_11 ?_
  refine va_gets hx hb z2 hS hown (hts _ q330) (fun _ h => h) dX1_mark_12 ?_
  refine lv_iload_n hx hb dX1_mark_15 rfl (lv_at hl 1 rfl) ?_
  refine va_ti hx hb T2 hS (vp_in_nI (show a < 5 by omega) (by decide)) (v := .int (xk_MM a)) (by rw [nI_clamp (by omega)]) dX1_mark_16 ?_
  refine xk_cvS hAt hK (P := bP D ad (ad 100) σ nw n) hP hA hS (As := [.int v, .int (xk_LM a), .int (xk_MM a)]) (rest := []) (b_check l D A (bP D ad (ad 100) σ nw n) v (xk_LM a) (xk_MM a) (by assumption)) (va_cwS 3 hts (lw_S q167 q168 q37 q169) rfl rfl rfl cdX1_check ⟨Nat.le_of_ble_eq_true rfl, Nat.le_of_ble_eq_true rfl⟩) rfl hl.1 rfl (Nat.le_of_ble_eq_true rfl) dX1_mark_17 ⟨Nat.le_of_ble_eq_true rfl, Nat.le_of_ble_eq_true rfl⟩ (fun H locs hP hS => ?_)
  refine lv_aload_n hx hb dX1_mark_20 rfl (lv_at hl 0 rfl) ?_
  refine xk_getO hAt hK (b0 hP) (C := RX1) (T := TX1) (N := 6) rfl 1 (by decide) (v := .ref (ad 6)) rfl (hts _ q136) (fun _ h => h) in_X1 dX1_mark_21 ?_
  refine lv_iload_n hx hb dX1_mark_24 rfl (lv_at hl 1 rfl) ?_
  refine xk_ialdO hAt hK (bmk hP) a (by omega) (by decide) dX1_mark_25 ?_
  refine lv_istore_n (lv' := [(3, .int (σ 1 a)), (0, .ref (ad 0)), (1, .int (nI a)), (2, .int v)]) hx hb dX1_mark_26 rfl hl (by decide) rfl (fun ls hl => ?_)
  refine lv_aload_n hx hb dX1_mark_27 rfl (lv_at hl 1 rfl) ?_
  refine xk_getO hAt hK (b0 hP) (C := RX1) (T := TX1) (N := 6) rfl 1 (by decide) (v := .ref (ad 6)) rfl (hts _ q136) (fun _ h => h) in_X1 dX1_mark_28 ?_
  refine lv_iload_n hx hb dX1_mark_31 rfl (lv_at hl 2 rfl) ?_
  refine lv_iload_n hx hb dX1_mark_32 rfl (lv_at hl 3 rfl) ?_
  refine xk_iastO hAt hK hS (bmk hP) (hJ.2 6 (by unfold bk_dom; omega) (by unfold bk_box; omega)) a (by omega) (by decide) dX1_mark_33 (fun H locs ho oq hz hS => ?_)
  have hP : bP D ad (ad 100) (va_up σ 1 (upd (σ 1) a v)) nw n H := bP_mark hJ hP hn0 ho oq
  refine lv_iload_n hx hb dX1_mark_34 rfl (lv_at hl 0 rfl) ?_
  exact hR _ _ _ _ _ dX1_mark_35 ⟨rfl, hP⟩ hS
