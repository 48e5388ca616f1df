/-! AN HOUR of the system, walked (printed by gen/model.py) -/
set_option maxRecDepth 100000
theorem cdX2_resize : yX2_resize.cls = RX2 ∧ yX2_resize.cls ≠ "java/lang/invoke/MethodHandle" ∧ yX2_resize.cls ≠ "java/lang/invoke/VarHandle" ∧ (parseMethodDescriptor yX2_resize.desc).map (fun d => d.parameters.length) = some 2 := by decide +kernel
theorem cdX2_remember : yX2_remember.cls = RX2 ∧ yX2_remember.cls ≠ "java/lang/invoke/MethodHandle" ∧ yX2_remember.cls ≠ "java/lang/invoke/VarHandle" ∧ (parseMethodDescriptor yX2_remember.desc).map (fun d => d.parameters.length) = some 1 := by decide +kernel
theorem cdX2_activate : yX2_activate.cls = RX2 ∧ yX2_activate.cls ≠ "java/lang/invoke/MethodHandle" ∧ yX2_activate.cls ≠ "java/lang/invoke/VarHandle" ∧ (parseMethodDescriptor yX2_activate.desc).map (fun d => d.parameters.length) = some 0 := by decide +kernel
theorem cdX2_work : yX2_work.cls = RX2 ∧ yX2_work.cls ≠ "java/lang/invoke/MethodHandle" ∧ yX2_work.cls ≠ "java/lang/invoke/VarHandle" ∧ (parseMethodDescriptor yX2_work.desc).map (fun d => d.parameters.length) = some 2 := by decide +kernel
theorem cdX2_rest : yX2_rest.cls = RX2 ∧ yX2_rest.cls ≠ "java/lang/invoke/MethodHandle" ∧ yX2_rest.cls ≠ "java/lang/invoke/VarHandle" ∧ (parseMethodDescriptor yX2_rest.desc).map (fun d => d.parameters.length) = some 1 := by decide +kernel
theorem cdX2_workAll : yX2_workAll.cls = RX2 ∧ yX2_workAll.cls ≠ "java/lang/invoke/MethodHandle" ∧ yX2_workAll.cls ≠ "java/lang/invoke/VarHandle" ∧ (parseMethodDescriptor yX2_workAll.desc).map (fun d => d.parameters.length) = some 0 := by decide +kernel
theorem cdX2_strikeAll : yX2_strikeAll.cls = RX2 ∧ yX2_strikeAll.cls ≠ "java/lang/invoke/MethodHandle" ∧ yX2_strikeAll.cls ≠ "java/lang/invoke/VarHandle" ∧ (parseMethodDescriptor yX2_strikeAll.desc).map (fun d => d.parameters.length) = some 0 := by decide +kernel
theorem cdX2_harmAll : yX2_harmAll.cls = RX2 ∧ yX2_harmAll.cls ≠ "java/lang/invoke/MethodHandle" ∧ yX2_harmAll.cls ≠ "java/lang/invoke/VarHandle" ∧ (parseMethodDescriptor yX2_harmAll.desc).map (fun d => d.parameters.length) = some 0 := by decide +kernel
theorem cdX5_grow : yX5_grow.cls = RX5 ∧ yX5_grow.cls ≠ "java/lang/invoke/MethodHandle" ∧ yX5_grow.cls ≠ "java/lang/invoke/VarHandle" ∧ (parseMethodDescriptor yX5_grow.desc).map (fun d => d.parameters.length) = some 0 := by decide +kernel
theorem cdX2_passHour : yX2_passHour.cls = RX2 ∧ yX2_passHour.cls ≠ "java/lang/invoke/MethodHandle" ∧ yX2_passHour.cls ≠ "java/lang/invoke/VarHandle" ∧ (parseMethodDescriptor yX2_passHour.desc).map (fun d => d.parameters.length) = some 0 := by decide +kernel
set_option maxHeartbeats 4000000 in
theorem b_resizeI (l : Launch) (D : xk_G) (A : Nat → Prop) (ad : Nat → Nat) (ρ : Nat) (σ : Nat → Nat → Int32) (nw : Nat → Int32) (n : Nat → Nat) (hJ : bk_ok A ad n) (hn0 : bk_n n) (k : Nat) (hk : k < n 3) (x : Int32) : Met l yX2_resize (ws_ yX2_resize cX2_resize 3 (none)) (xk_R 1 21) (xk_Pre D A (bP D ad ρ σ nw n) [.ref (ad 100), .ref (ad (120 + k)), .int x]) (xk_Pv A (fun H => bP D ad ρ σ (bk_sizes nw k x) n H)) 0 0 A := by
  refine xk_startV (by decide +kernel) (Nat.le_of_ble_eq_true rfl) ?_
  intro p e s m args below meth c Q hAt hin hK hA hP hR ls hl
  obtain ⟨hx, hb, hml, hown, hts⟩ := id hAt
  have hl : lv_has ls 3 [(0, .ref (ad 100)), (1, .ref (ad (120 + k))), (2, .int x)] := hl
  have hS : va_S A s.heap s.heap [] := va_S.rf
  obtain ⟨h0m, h1m, h2m, h3m, h4m⟩ := id hn0
  refine lv_aload_n hx hb dX2_resize_0 rfl (lv_at hl 0 rfl) ?_
  refine lv_dup hx hb dX2_resize_1 rfl ?_
  refine xk_getO hAt hK (b100 hP) (C := RX2) (T := TX2) (N := 7) rfl 3 (by decide) (v := .int (nw 152)) rfl (hts _ q115) (fun _ h => h) in_X2 dX2_resize_2 ?_
  refine lv_iload_n hx hb dX2_resize_5 rfl (lv_at hl 2 rfl) ?_
  refine lv_aload_n hx hb dX2_resize_6 rfl (lv_at hl 1 rfl) ?_
  refine xk_getN hAt hK (bcell hP k (by omega)) (C := RX4) (T := TX4) (N := 7) rfl 5 (by decide) (v := .int (nw (40 + k))) rfl q544 (fun _ h => h) in_X4 dX2_resize_7 ?_
  refine lv_isub hx hb dX2_resize_10 ?_
  refine lv_iconst (v := 0) hx hb dX2_resize_11 (by decide) ?_
  refine va_mmax hx hb (hml.trans hl.1.symm) hown (hts _ q717) (hts _ q293) (hts _ q52) (hts _ q294) (Nat.le_of_ble_eq_true rfl) (Nat.le_of_ble_eq_true rfl) (Nat.le_refl _) (Nat.le_refl _) dX2_resize_12 ?_
  refine lv_iadd hx hb dX2_resize_15 ?_
  refine xk_putO hAt hK hS (b100 hP) (hJ.2 100 (by unfold bk_dom; omega) (by unfold bk_box; omega)) (C := RX2) (T := TX2) (N := 7) rfl 3 (by decide) (v := .int ((nw 152) + (if (x - (nw (40 + k))) < 0 then 0 else (x - (nw (40 + k)))))) (hts _ q115) (fun _ h => h) rfl (ty := .int) (by decide +kernel) rfl rfl tyX2 tyX2_ok nmX2 (Nat.le_of_ble_eq_true rfl) in_X2 dX2_resize_16 (fun H locs ho oq hz hS => ?_)
  have hP : bP D ad ρ σ (upd nw 152 ((nw 152) + (if (x - (nw (40 + k))) < 0 then 0 else (x - (nw (40 + k)))))) n H := bP_born hJ hP hn0 ho oq
  have hP : bP D ad ρ σ (bk_sz1 nw k x) n H := hP
  refine lv_aload_n hx hb dX2_resize_19 rfl (lv_at hl 0 rfl) ?_
  refine lv_dup hx hb dX2_resize_20 rfl ?_
  refine xk_getO hAt hK (b100 hP) (C := RX2) (T := TX2) (N := 7) rfl 4 (by decide) (v := .int ((bk_sz1 nw k x) 153)) rfl (hts _ q116) (fun _ h => h) in_X2 dX2_resize_21 ?_
  refine lv_aload_n hx hb dX2_resize_24 rfl (lv_at hl 1 rfl) ?_
  refine xk_getN hAt hK (bcell hP k (by omega)) (C := RX4) (T := TX4) (N := 7) rfl 5 (by decide) (v := .int ((bk_sz1 nw k x) (40 + k))) rfl q544 (fun _ h => h) in_X4 dX2_resize_25 ?_
  refine lv_iload_n hx hb dX2_resize_28 rfl (lv_at hl 2 rfl) ?_
  refine lv_isub hx hb dX2_resize_29 ?_
  refine lv_iconst (v := 0) hx hb dX2_resize_30 (by decide) ?_
  refine va_mmax hx hb (hml.trans hl.1.symm) hown (hts _ q717) (hts _ q293) (hts _ q52) (hts _ q294) (Nat.le_of_ble_eq_true rfl) (Nat.le_of_ble_eq_true rfl) (Nat.le_refl _) (Nat.le_refl _) dX2_resize_31 ?_
  refine lv_iadd hx hb dX2_resize_34 ?_
  refine xk_putO hAt hK hS (b100 hP) (hJ.2 100 (by unfold bk_dom; omega) (by unfold bk_box; omega)) (C := RX2) (T := TX2) (N := 7) rfl 4 (by decide) (v := .int (((bk_sz1 nw k x) 153) + (if (((bk_sz1 nw k x) (40 + k)) - x) < 0 then 0 else (((bk_sz1 nw k x) (40 + k)) - x)))) (hts _ q116) (fun _ h => h) rfl (ty := .int) (by decide +kernel) rfl rfl tyX2 tyX2_ok nmX2 (Nat.le_of_ble_eq_true rfl) in_X2 dX2_resize_35 (fun H locs ho oq hz hS => ?_)
  have hP : bP D ad ρ σ (upd (bk_sz1 nw k x) 153 (((bk_sz1 nw k x) 153) + (if (((bk_sz1 nw k x) (40 + k)) - x) < 0 then 0 else (((bk_sz1 nw k x) (40 + k)) - x)))) n H := bP_dead hJ hP hn0 ho oq
  have hP : bP D ad ρ σ (bk_sz2 nw k x) n H := hP
  refine lv_aload_n hx hb dX2_resize_38 rfl (lv_at hl 1 rfl) ?_
  refine lv_iload_n hx hb dX2_resize_39 rfl (lv_at hl 2 rfl) ?_
  refine xk_putN hAt hK hS (bcell hP k (by omega)) (hJ.2 (120 + k) (by unfold bk_dom; omega) (by unfold bk_box; omega)) (C := RX4) (T := TX4) (N := 7) rfl 5 (by decide) (v := .int x) q544 (fun _ h => h) rfl (ty := .int) (by decide +kernel) rfl rfl tyX4 tyX4_ok nmX4 (Nat.le_of_ble_eq_true rfl) in_X4 dX2_resize_40 (fun H locs ho oq hz hS => ?_)
  have hP : bP D ad ρ σ (upd (bk_sz2 nw k x) (40 + k) x) n H := bP_cSz hJ hP hn0 k (by omega) ho oq
  exact hR _ _ _ _ dX2_resize_43 (hP) hS
set_option maxHeartbeats 4000000 in
theorem b_rememberI (l : Launch) (D : xk_G) (A : Nat → Prop) (ad : Nat → Nat) (ρ : Nat) (σ : Nat → Nat → Int32) (nw : Nat → Int32) (n : Nat → Nat) (hJ : bk_ok A ad n) (hn0 : bk_n n) (k : Nat) (hk : k < n 3) : Met l yX2_remember (ws_ yX2_remember cX2_remember 2 (none)) (xk_R 2 43) (xk_Pre D A (bP D ad ρ σ nw n) [.ref (ad 100), .ref (ad (120 + k))]) (xk_Pv A (fun H => bP D ad ρ σ (bk_rem nw k) n H)) 0 0 A := by
  refine xk_startV (by decide +kernel) (Nat.le_of_ble_eq_true rfl) ?_
  intro p e s m args below meth c Q hAt hin hK hA hP hR ls hl
  obtain ⟨hx, hb, hml, hown, hts⟩ := id hAt
  have hl : lv_has ls 2 [(0, .ref (ad 100)), (1, .ref (ad (120 + k)))] := hl
  have hS : va_S A s.heap s.heap [] := va_S.rf
  obtain ⟨h0m, h1m, h2m, h3m, h4m⟩ := id hn0
  refine lv_aload_n hx hb dX2_remember_0 rfl (lv_at hl 0 rfl) ?_
  refine lv_aload_n hx hb dX2_remember_1 rfl (lv_at hl 1 rfl) ?_
  refine lv_iconst (v := 1) hx hb dX2_remember_2 (by decide) ?_
  refine xk_cvV hAt hK (P := bP D ad ρ σ nw n) hP hA hS (xk_recv (q := (RX2, TX2, 7)) hK (b100 hP) rfl) (As := [.ref (ad (120 + k)), .int 1]) (rest := []) (b_resizeI l D A ad ρ σ nw n hJ hn0 k (by omega) 1) (cwV 2 hts (lw_V q713 q714 q715 q41 q716) rfl rfl rfl cdX2_resize ⟨Nat.le_of_ble_eq_true rfl, Nat.le_of_ble_eq_true rfl⟩) rfl hl.1 rfl (Nat.le_of_ble_eq_true rfl) dX2_remember_3 ⟨Nat.le_refl _, Nat.le_refl _⟩ (fun H locs hP hS => ?_)
  refine lv_aload_n hx hb dX2_remember_6 rfl (lv_at hl 1 rfl) ?_
  refine lv_iconst (v := 5) hx hb dX2_remember_7 (by decide) ?_
  refine xk_putN hAt hK hS (bcell hP k (by omega)) (hJ.2 (120 + k) (by unfold bk_dom; omega) (by unfold bk_box; omega)) (C := RX4) (T := TX4) (N := 7) rfl 4 (by decide) (v := .int 5) q541 (fun _ h => h) rfl (ty := .int) (by decide +kernel) rfl rfl tyX4 tyX4_ok nmX4 (Nat.le_of_ble_eq_true rfl) in_X4 dX2_remember_8 (fun H locs ho oq hz hS => ?_)
  have hP : bP D ad ρ σ (upd (bk_sizes nw k 1) k 5) n H := bP_cSt hJ hP hn0 k (by omega) ho oq
  exact hR _ _ _ _ dX2_remember_11 (hP) hS
set_option maxHeartbeats 4000000 in
theorem b_activateI (l : Launch) (D : xk_G) (A : Nat → Prop) (ad : Nat → Nat) (ρ : Nat) (σ : Nat → Nat → Int32) (nw : Nat → Int32) (n : Nat → Nat) (hJ : bk_ok A ad n) (hn0 : bk_n n)  : Met l yX2_activate (ws_ yX2_activate cX2_activate 5 (none)) (xk_R 5 114) (xk_Pre D A (bP D ad ρ σ nw n) [.ref (ad 100)]) (xk_Pv A (fun H => bP D ad ρ σ (bk_actR σ n (mk_alarm σ nw n) nw (n 3)) n H)) 0 0 A := by
  refine xk_startV (by decide +kernel) (Nat.le_of_ble_eq_true rfl) ?_
  intro p e s m args below meth c Q hAt hin hK hA hP hR ls hl
  obtain ⟨hx, hb, hml, hown, hts⟩ := id hAt
  have hl : lv_has ls 5 [(0, .ref (ad 100))] := hl
  have hS : va_S A s.heap s.heap [] := va_S.rf
  obtain ⟨h0m, h1m, h2m, h3m, h4m⟩ := id hn0
  refine lv_aload_n hx hb dX2_activate_0 rfl (lv_at hl 0 rfl) ?_
  refine xk_ciV hAt hK (P := bP D ad ρ σ nw n) hP hA hS (xk_recv (q := (RX2, TX2, 7)) hK (b100 hP) rfl) (As := []) (rest := []) (b_invaderSizesI l D A ad ρ σ nw n (by assumption)) (cwV 0 hts (lw_V q684 q685 q686 q41 q687) rfl rfl rfl cdX2_invaderSizes ⟨Nat.le_of_ble_eq_true rfl, Nat.le_of_ble_eq_true rfl⟩) rfl hl.1 rfl (Nat.le_of_ble_eq_true rfl) dX2_activate_1 ⟨Nat.le_refl _, Nat.le_refl _⟩ (fun r H locs hq hS => ?_)
  obtain ⟨rfl, hP⟩ := hq
  refine lv_aload_n hx hb dX2_activate_4 rfl (lv_at hl 0 rfl) ?_
  refine xk_getO hAt hK (b100 hP) (C := RX2) (T := TX2) (N := 7) rfl 6 (by decide) (v := .ref (ad 0)) rfl (hts _ q119) (fun _ h => h) in_X2 dX2_activate_5 ?_
  refine xk_getN hAt hK (b0 hP) (C := RX1) (T := TX1) (N := 6) rfl 1 (by decide) (v := .ref (ad 6)) rfl q137 (fun _ h => h) in_X1 dX2_activate_8 ?_
  refine lv_iconst (v := 3) hx hb dX2_activate_11 (by decide) ?_
  refine xk_ialdO hAt hK (bmk hP) 3 (by omega) (by decide) dX2_activate_12 ?_
  have J21_2 : ∀ (H : Heap) (locs : List Loc) (ls : Array Slot) (t0 : Int32), t0 = xk_b (¬ (mk_sumI nw (n 4) < σ 1 3)) → bP D ad ρ σ nw n H → va_S A s.heap H locs → lv_has ls 5 [(0, .ref (ad 100))] → W p l e (xk_R 5 114) s m args below meth c H locs 0 0 Q (F0 m 21 ls [.int t0]) := by
    intro H locs ls t0 et0 hP hS hl
    subst et0
    refine lv_istore_n (lv' := [(1, .int (xk_b (¬ (mk_sumI nw (n 4) < σ 1 3)))), (0, .ref (ad 100))]) hx hb dX2_activate_21 rfl hl (by decide) rfl (fun ls hl => ?_)
    refine lv_iconst (v := 0) hx hb dX2_activate_22 (by decide) ?_
    refine lv_istore_n (lv' := [(2, .int 0), (1, .int (xk_b (¬ (mk_sumI nw (n 4) < σ 1 3)))), (0, .ref (ad 100))]) hx hb dX2_activate_23 rfl hl (by decide) rfl (fun ls hl => ?_)
    have L24 : ∀ (fu i2 : Nat), n 3 + 1 ≤ i2 + fu → i2 ≤ n 3 → ∀ (H : Heap) (locs : List Loc) (ls : Array Slot) (znw : Nat → Int32), znw = bk_actR σ n (mk_alarm σ nw n) nw i2 → bP D ad ρ σ znw n H → va_S A s.heap H locs → lv_has ls 5 [(2, .int (nI i2)), (1, .int (xk_b (¬ (mk_sumI nw (n 4) < σ 1 3)))), (0, .ref (ad 100))] → W p l e (xk_R 5 114) s m args below meth c H locs 0 0 Q (F0 m 24 ls []) := by
      intro fu
      induction fu with
      | zero => intro i2 h24a h24b; exact absurd h24a (by omega)
      | succ fu ih24 =>
        intro i2 h24a h24b  H locs ls znw eznw hP hS hl
        subst eznw
        refine lv_iload_n hx hb dX2_activate_24 rfl (lv_at hl 0 rfl) ?_
        refine lv_aload_n hx hb dX2_activate_25 rfl (lv_at hl 2 rfl) ?_
        refine xk_getO hAt hK (b100 hP) (C := RX2) (T := TX2) (N := 7) rfl 0 (by decide) (v := .ref (ad 101)) rfl (hts _ q109) (fun _ h => h) in_X2 dX2_activate_26 ?_
        refine xk_ciF hAt hK (P := bP D ad ρ σ (bk_actR σ n (mk_alarm σ nw n) nw i2) n) hP hA hS (xk_recvL hK (bcl hP)) (As := []) (rest := [.int (nI i2)]) (al_size l D A (bP D ad ρ σ (bk_actR σ n (mk_alarm σ nw n) nw i2) n) (ad 101) (ad 104) (n 3) (fun j => ad (120 + j)) (fun _ h => bcl h)) (va_cwF 0 hts (xk_lwF q671 q240 q242 q40 q244) rfl rfl rfl hK.2.2.1 (by decide +kernel) ⟨Nat.le_of_ble_eq_true rfl, Nat.le_of_ble_eq_true rfl⟩) rfl hl.1 rfl (Nat.le_of_ble_eq_true rfl) dX2_activate_29 ⟨Nat.le_refl _, Nat.le_refl _⟩ (fun r H locs hq hS => ?_)
        obtain ⟨rfl, hP⟩ := hq
        refine mk_ge (tgt := 115) (a := i2) (b := n 3) hx hb (by omega) (by omega) dX2_activate_34 (by decide) (fun c_3 => ?_) (fun c_3 => ?_)
        · skip
          obtain rfl : i2 = n 3 := by omega
          exact hR _ _ _ _ dX2_activate_115 (hP) hS
        refine lv_aload_n hx hb dX2_activate_37 rfl (lv_at hl 2 rfl) ?_
        refine xk_getO hAt hK (b100 hP) (C := RX2) (T := TX2) (N := 7) rfl 0 (by decide) (v := .ref (ad 101)) rfl (hts _ q109) (fun _ h => h) in_X2 dX2_activate_38 ?_
        refine lv_iload_n hx hb dX2_activate_41 rfl (lv_at hl 0 rfl) ?_
        refine xk_crF hAt hK (P := bP D ad ρ σ (bk_actR σ n (mk_alarm σ nw n) nw i2) n) hP hA hS (xk_recvL hK (bcl hP)) (As := [.int (nI i2)]) (rest := []) (al_get l D A (bP D ad ρ σ (bk_actR σ n (mk_alarm σ nw n) nw i2) n) (ad 101) (ad 104) (n 3) (fun j => ad (120 + j)) (fun _ h => bcl h) i2 (by omega) (by omega)) (va_cwF 1 hts (xk_lwF q673 q253 q255 q40 q257) rfl rfl rfl hK.2.2.2.1 (by decide +kernel) ⟨Nat.le_of_ble_eq_true rfl, Nat.le_of_ble_eq_true rfl⟩) rfl hl.1 rfl (Nat.le_of_ble_eq_true rfl) dX2_activate_42 ⟨Nat.le_refl _, Nat.le_refl _⟩ (fun r H locs hq hS => ?_)
        have hq : r = ad (120 + i2) ∧ bP D ad ρ σ (bk_actR σ n (mk_alarm σ nw n) nw i2) n H := hq
        obtain ⟨rfl, hP⟩ := hq
        refine xk_cast hAt hK (bcell hP i2 (by omega)) rfl rfl (hts _ q688) dX2_activate_47 ?_
        refine lv_astore_n (lv' := [(3, .ref (ad (120 + i2))), (2, .int (nI i2)), (1, .int (xk_b (¬ (mk_sumI nw (n 4) < σ 1 3)))), (0, .ref (ad 100))]) hx hb dX2_activate_50 rfl hl (by decide) rfl (fun ls hl => ?_)
        refine lv_aload_n hx hb dX2_activate_51 rfl (lv_at hl 0 rfl) ?_
        refine xk_getN hAt hK (bcell hP i2 (by omega)) (C := RX4) (T := TX4) (N := 7) rfl 4 (by decide) (v := .int ((bk_actR σ n (mk_alarm σ nw n) nw i2) i2)) rfl q541 (fun _ h => h) in_X4 dX2_activate_52 ?_
        refine lv_iconst (v := 5) hx hb dX2_activate_55 (by decide) ?_
        have J84_5 : ∀ (H : Heap) (locs : List Loc) (ls : Array Slot) (t0 : Int32), t0 = xk_b ((bk_actR σ n (mk_alarm σ nw n) nw i2) i2 = 5 ∨ ((bk_actR σ n (mk_alarm σ nw n) nw i2) i2 = 2 ∧ (¬ (σ 7 i2 = 2) ∧ ¬ (mk_sumI nw (n 4) < σ 1 3)))) → bP D ad ρ σ (bk_actR σ n (mk_alarm σ nw n) nw i2) n H → va_S A s.heap H locs → lv_has ls 5 [(3, .ref (ad (120 + i2))), (2, .int (nI i2)), (1, .int (xk_b (¬ (mk_sumI nw (n 4) < σ 1 3)))), (0, .ref (ad 100))] → W p l e (xk_R 5 114) s m args below meth c H locs 0 0 Q (F0 m 84 ls [.int t0]) := by
          intro H locs ls t0 et0 hP hS hl
          subst et0
          refine lv_istore (lv' := [(4, .int (xk_b ((bk_actR σ n (mk_alarm σ nw n) nw i2) i2 = 5 ∨ ((bk_actR σ n (mk_alarm σ nw n) nw i2) i2 = 2 ∧ (¬ (σ 7 i2 = 2) ∧ ¬ (mk_sumI nw (n 4) < σ 1 3)))))), (3, .ref (ad (120 + i2))), (2, .int (nI i2)), (1, .int (xk_b (¬ (mk_sumI nw (n 4) < σ 1 3)))), (0, .ref (ad 100))]) hx hb dX2_activate_84 hl (by decide) rfl (fun ls hl => ?_)
          refine lv_iload hx hb dX2_activate_86 (lv_at hl 0 rfl) ?_
          have J109_7 : ∀ (H : Heap) (locs : List Loc) (ls : Array Slot) (znw : Nat → Int32), znw = (if (bk_actR σ n (mk_alarm σ nw n) nw i2) i2 = 5 ∨ ((bk_actR σ n (mk_alarm σ nw n) nw i2) i2 = 2 ∧ (¬ (σ 7 i2 = 2) ∧ ¬ (mk_sumI nw (n 4) < σ 1 3))) then (if mk_mts σ (bk_actR σ n (mk_alarm σ nw n) nw i2) n (σ 6 i2) then upd (upd (bk_actR σ n (mk_alarm σ nw n) nw i2) i2 3) (80 + i2) 0 else bk_actR σ n (mk_alarm σ nw n) nw i2) else bk_actR σ n (mk_alarm σ nw n) nw i2) → bP D ad ρ σ znw n H → va_S A s.heap H locs → lv_has ls 5 [(4, .int (xk_b ((bk_actR σ n (mk_alarm σ nw n) nw i2) i2 = 5 ∨ ((bk_actR σ n (mk_alarm σ nw n) nw i2) i2 = 2 ∧ (¬ (σ 7 i2 = 2) ∧ ¬ (mk_sumI nw (n 4) < σ 1 3)))))), (3, .ref (ad (120 + i2))), (2, .int (nI i2)), (1, .int (xk_b (¬ (mk_sumI nw (n 4) < σ 1 3)))), (0, .ref (ad 100))] → W p l e (xk_R 5 114) s m args below meth c H locs 0 0 Q (F0 m 109 ls []) := by
            intro H locs ls znw eznw hP hS hl
            subst eznw
            refine lv_iinc (v := nI (i2 + 1)) (lv' := [(2, .int (nI (i2 + 1))), (4, .int (xk_b ((bk_actR σ n (mk_alarm σ nw n) nw i2) i2 = 5 ∨ ((bk_actR σ n (mk_alarm σ nw n) nw i2) i2 = 2 ∧ (¬ (σ 7 i2 = 2) ∧ ¬ (mk_sumI nw (n 4) < σ 1 3)))))), (3, .ref (ad (120 + i2))), (1, .int (xk_b (¬ (mk_sumI nw (n 4) < σ 1 3)))), (0, .ref (ad 100))]) hx hb dX2_activate_109 hl (k := 2) rfl (xk_inc i2) (by decide) rfl (fun ls hl => ?_)
            refine lv_goto (tgt := 24) hx hb dX2_activate_112 (by decide) ?_
            exact ih24 (i2 + 1) (by omega) (by omega)  _ _ _ (if (bk_actR σ n (mk_alarm σ nw n) nw i2) i2 = 5 ∨ ((bk_actR σ n (mk_alarm σ nw n) nw i2) i2 = 2 ∧ (¬ (σ 7 i2 = 2) ∧ ¬ (mk_sumI nw (n 4) < σ 1 3))) then (if mk_mts σ (bk_actR σ n (mk_alarm σ nw n) nw i2) n (σ 6 i2) then upd (upd (bk_actR σ n (mk_alarm σ nw n) nw i2) i2 3) (80 + i2) 0 else bk_actR σ n (mk_alarm σ nw n) nw i2) else bk_actR σ n (mk_alarm σ nw n) nw i2) (rfl) hP hS (lv_sub hl [0, 3, 4] rfl)
          refine xk_ifeq (tgt := 109) hx hb dX2_activate_88 (by decide) (fun c_6 => ?_) (fun c_6 => ?_)
          · skip
            exact J109_7 _ _ _ (bk_actR σ n (mk_alarm σ nw n) nw i2) ((if_neg c_6).symm) hP hS (lv_sub hl [0, 1, 2, 3, 4] rfl)
          refine lv_aload_n hx hb dX2_activate_91 rfl (lv_at hl 4 rfl) ?_
          refine lv_aload_n hx hb dX2_activate_92 rfl (lv_at hl 1 rfl) ?_
          refine xk_ciV hAt hK (P := bP D ad ρ σ (bk_actR σ n (mk_alarm σ nw n) nw i2) n) hP hA hS (xk_recv (q := (RX2, TX2, 7)) hK (b100 hP) rfl) (As := [.ref (ad (120 + i2))]) (rest := []) (b_meetsI l D A ad ρ σ (bk_actR σ n (mk_alarm σ nw n) nw i2) n (by assumption) (by assumption) i2 (by omega)) (cwV 1 hts (lw_V q689 q690 q691 q41 q692) rfl rfl rfl cdX2_meets ⟨Nat.le_of_ble_eq_true rfl, Nat.le_of_ble_eq_true rfl⟩) rfl hl.1 rfl (Nat.le_of_ble_eq_true rfl) dX2_activate_93 ⟨Nat.le_refl _, Nat.le_refl _⟩ (fun r H locs hq hS => ?_)
          obtain ⟨rfl, hP⟩ := hq
          refine xk_ifeq (tgt := 109) hx hb dX2_activate_96 (by decide) (fun c_8 => ?_) (fun c_8 => ?_)
          · skip
            exact J109_7 _ _ _ (bk_actR σ n (mk_alarm σ nw n) nw i2) (((if_neg c_8).symm).trans (if_pos c_6).symm) hP hS (lv_sub hl [0, 1, 2, 3, 4] rfl)
          refine lv_aload_n hx hb dX2_activate_99 rfl (lv_at hl 1 rfl) ?_
          refine lv_iconst (v := 3) hx hb dX2_activate_100 (by decide) ?_
          refine xk_putN hAt hK hS (bcell hP i2 (by omega)) (hJ.2 (120 + i2) (by unfold bk_dom; omega) (by unfold bk_box; omega)) (C := RX4) (T := TX4) (N := 7) rfl 4 (by decide) (v := .int 3) q541 (fun _ h => h) rfl (ty := .int) (by decide +kernel) rfl rfl tyX4 tyX4_ok nmX4 (Nat.le_of_ble_eq_true rfl) in_X4 dX2_activate_101 (fun H locs ho oq hz hS => ?_)
          have hP : bP D ad ρ σ (upd (bk_actR σ n (mk_alarm σ nw n) nw i2) i2 3) n H := bP_cSt hJ hP hn0 i2 (by omega) ho oq
          refine lv_aload_n hx hb dX2_activate_104 rfl (lv_at hl 1 rfl) ?_
          refine lv_iconst (v := 0) hx hb dX2_activate_105 (by decide) ?_
          refine xk_putN hAt hK hS (bcell hP i2 (by omega)) (hJ.2 (120 + i2) (by unfold bk_dom; omega) (by unfold bk_box; omega)) (C := RX4) (T := TX4) (N := 7) rfl 6 (by decide) (v := .int 0) q547 (fun _ h => h) rfl (ty := .int) (by decide +kernel) rfl rfl tyX4 tyX4_ok nmX4 (Nat.le_of_ble_eq_true rfl) in_X4 dX2_activate_106 (fun H locs ho oq hz hS => ?_)
          have hP : bP D ad ρ σ (upd (upd (bk_actR σ n (mk_alarm σ nw n) nw i2) i2 3) (80 + i2) 0) n H := bP_cWk hJ hP hn0 i2 (by omega) ho oq
          exact J109_7 _ _ _ (upd (upd (bk_actR σ n (mk_alarm σ nw n) nw i2) i2 3) (80 + i2) 0) (((if_pos c_8).symm).trans (if_pos c_6).symm) hP hS (lv_sub hl [0, 1, 2, 3, 4] rfl)
        refine lv_icmp_eq (tgt := 79) hx hb dX2_activate_56 (by decide) (fun c_4 => ?_) (fun c_4 => ?_)
        · skip
          refine lv_iconst (v := 1) hx hb dX2_activate_79 (by decide) ?_
          refine lv_goto (tgt := 84) hx hb dX2_activate_80 (by decide) ?_
          exact J84_5 _ _ _ 1 ((if_pos (Or.inl c_4)).symm) hP hS (lv_sub hl [0, 1, 2, 3] rfl)
        refine lv_aload_n hx hb dX2_activate_59 rfl (lv_at hl 0 rfl) ?_
        refine xk_getN hAt hK (bcell hP i2 (by omega)) (C := RX4) (T := TX4) (N := 7) rfl 4 (by decide) (v := .int ((bk_actR σ n (mk_alarm σ nw n) nw i2) i2)) rfl q541 (fun _ h => h) in_X4 dX2_activate_60 ?_
        refine lv_iconst (v := 2) hx hb dX2_activate_63 (by decide) ?_
        refine lv_icmp_ne (tgt := 83) hx hb dX2_activate_64 (by decide) (fun c_9 => ?_) (fun c_9 => ?_)
        · skip
          refine lv_iconst (v := 0) hx hb dX2_activate_83 (by decide) ?_
          exact J84_5 _ _ _ 0 ((if_neg (fun h => h.elim (fun z => c_4 z) (fun z => (fun h => c_9 h.1) z))).symm) hP hS (lv_sub hl [0, 1, 2, 3] rfl)
        refine lv_aload_n hx hb dX2_activate_67 rfl (lv_at hl 0 rfl) ?_
        refine xk_getN hAt hK (bcell hP i2 (by omega)) (C := RX4) (T := TX4) (N := 7) rfl 2 (by decide) (v := .int (σ 7 i2)) rfl q536 (fun _ h => h) in_X4 dX2_activate_68 ?_
        refine lv_iconst (v := 2) hx hb dX2_activate_71 (by decide) ?_
        refine lv_icmp_eq (tgt := 83) hx hb dX2_activate_72 (by decide) (fun c_10 => ?_) (fun c_10 => ?_)
        · skip
          refine lv_iconst (v := 0) hx hb dX2_activate_83 (by decide) ?_
          exact J84_5 _ _ _ 0 ((if_neg (fun h => h.elim (fun z => c_4 z) (fun z => (fun h => (fun h => h.1 c_10) h.2) z))).symm) hP hS (lv_sub hl [0, 1, 2, 3] rfl)
        refine lv_iload_n hx hb dX2_activate_75 rfl (lv_at hl 2 rfl) ?_
        refine xk_ifeq (tgt := 83) hx hb dX2_activate_76 (by decide) (fun c_11 => ?_) (fun c_11 => ?_)
        · skip
          refine lv_iconst (v := 0) hx hb dX2_activate_83 (by decide) ?_
          exact J84_5 _ _ _ 0 ((if_neg (fun h => h.elim (fun z => c_4 z) (fun z => (fun h => (fun h => c_11 h.2) h.2) z))).symm) hP hS (lv_sub hl [0, 1, 2, 3] rfl)
        refine lv_iconst (v := 1) hx hb dX2_activate_79 (by decide) ?_
        refine lv_goto (tgt := 84) hx hb dX2_activate_80 (by decide) ?_
        exact J84_5 _ _ _ 1 ((if_pos (Or.inr ⟨c_9, ⟨c_10, c_11⟩⟩)).symm) hP hS (lv_sub hl [0, 1, 2, 3] rfl)
    exact L24 (n 3 + 1) 0 (by omega) (by omega)  _ _ _ nw (rfl) hP hS (lv_sub hl [0, 1, 2] rfl)
  refine lv_icmp_lt (tgt := 20) hx hb dX2_activate_13 (by decide) (fun c_1 => ?_) (fun c_1 => ?_)
  · skip
    refine lv_iconst (v := 0) hx hb dX2_activate_20 (by decide) ?_
    exact J21_2 _ _ _ 0 ((if_neg (fun h => h c_1)).symm) hP hS (lv_sub hl [0] rfl)
  refine lv_iconst (v := 1) hx hb dX2_activate_16 (by decide) ?_
  refine lv_goto (tgt := 21) hx hb dX2_activate_17 (by decide) ?_
  exact J21_2 _ _ _ 1 ((if_pos c_1).symm) hP hS (lv_sub hl [0] rfl)
set_option maxHeartbeats 4000000 in
theorem b_workI (l : Launch) (D : xk_G) (A : Nat → Prop) (ad : Nat → Nat) (ρ : Nat) (σ : Nat → Nat → Int32) (nw : Nat → Int32) (n : Nat → Nat) (hJ : bk_ok A ad n) (hn0 : bk_n n) (k : Nat) (hk : k < n 3) (h : Int32) : Met l yX2_work (ws_ yX2_work cX2_work 4 (none)) (xk_R 2 43) (xk_Pre D A (bP D ad ρ σ nw n) [.ref (ad 100), .ref (ad (120 + k)), .int h]) (xk_Pv A (fun H => bP D ad ρ σ (bk_wk σ h nw k) n H)) 0 0 A := by
  refine xk_startV (by decide +kernel) (Nat.le_of_ble_eq_true rfl) ?_
  intro p e s m args below meth c Q hAt hin hK hA hP hR ls hl
  obtain ⟨hx, hb, hml, hown, hts⟩ := id hAt
  have hl : lv_has ls 4 [(0, .ref (ad 100)), (1, .ref (ad (120 + k))), (2, .int h)] := hl
  have hS : va_S A s.heap s.heap [] := va_S.rf
  obtain ⟨h0m, h1m, h2m, h3m, h4m⟩ := id hn0
  refine lv_aload_n hx hb dX2_work_0 rfl (lv_at hl 1 rfl) ?_
  refine lv_dup hx hb dX2_work_1 rfl ?_
  refine xk_getN hAt hK (bcell hP k (by omega)) (C := RX4) (T := TX4) (N := 7) rfl 6 (by decide) (v := .int (nw (80 + k))) rfl q547 (fun _ h => h) in_X4 dX2_work_2 ?_
  refine lv_iconst (v := 1) hx hb dX2_work_5 (by decide) ?_
  refine lv_iadd hx hb dX2_work_6 ?_
  refine xk_putN hAt hK hS (bcell hP k (by omega)) (hJ.2 (120 + k) (by unfold bk_dom; omega) (by unfold bk_box; omega)) (C := RX4) (T := TX4) (N := 7) rfl 6 (by decide) (v := .int ((nw (80 + k)) + 1)) q547 (fun _ h => h) rfl (ty := .int) (by decide +kernel) rfl rfl tyX4 tyX4_ok nmX4 (Nat.le_of_ble_eq_true rfl) in_X4 dX2_work_7 (fun H locs ho oq hz hS => ?_)
  have hP : bP D ad ρ σ (upd nw (80 + k) ((nw (80 + k)) + 1)) n H := bP_cWk hJ hP hn0 k (by omega) ho oq
  have hP : bP D ad ρ σ (mk_wk0 nw k) n H := hP
  refine lv_aload_n hx hb dX2_work_10 rfl (lv_at hl 1 rfl) ?_
  refine xk_getN hAt hK (bcell hP k (by omega)) (C := RX4) (T := TX4) (N := 7) rfl 6 (by decide) (v := .int ((mk_wk0 nw k) (80 + k))) rfl q547 (fun _ h => h) in_X4 dX2_work_11 ?_
  refine lv_aload_n hx hb dX2_work_14 rfl (lv_at hl 0 rfl) ?_
  refine xk_getO hAt hK (b100 hP) (C := RX2) (T := TX2) (N := 7) rfl 6 (by decide) (v := .ref (ad 0)) rfl (hts _ q119) (fun _ h => h) in_X2 dX2_work_15 ?_
  refine xk_getN hAt hK (b0 hP) (C := RX1) (T := TX1) (N := 6) rfl 1 (by decide) (v := .ref (ad 6)) rfl q137 (fun _ h => h) in_X1 dX2_work_18 ?_
  refine lv_iconst (v := 4) hx hb dX2_work_21 (by decide) ?_
  refine xk_ialdO hAt hK (bmk hP) 4 (by omega) (by decide) dX2_work_22 ?_
  refine lv_icmp_le (tgt := 32) hx hb dX2_work_23 (by decide) (fun c_1 => ?_) (fun c_1 => ?_)
  · skip
    refine lv_aload_n hx hb dX2_work_32 rfl (lv_at hl 1 rfl) ?_
    refine xk_getN hAt hK (bcell hP k (by omega)) (C := RX4) (T := TX4) (N := 7) rfl 2 (by decide) (v := .int (σ 7 k)) rfl q536 (fun _ h => h) in_X4 dX2_work_33 ?_
    refine lv_iconst (v := 1) hx hb dX2_work_36 (by decide) ?_
    have J47_3 : ∀ (H : Heap) (locs : List Loc) (ls : Array Slot) (t0 : Int32), t0 = (if σ 7 k = 1 then (h - 1) else h) → bP D ad ρ σ (mk_wk0 nw k) n H → va_S A s.heap H locs → lv_has ls 4 [(0, .ref (ad 100)), (1, .ref (ad (120 + k))), (2, .int h)] → W p l e (xk_R 2 43) s m args below meth c H locs 0 0 Q (F0 m 47 ls [.int t0]) := by
      intro H locs ls t0 et0 hP hS hl
      subst et0
      refine lv_istore_n (lv' := [(3, .int (if σ 7 k = 1 then (h - 1) else h)), (0, .ref (ad 100)), (1, .ref (ad (120 + k))), (2, .int h)]) hx hb dX2_work_47 rfl hl (by decide) rfl (fun ls hl => ?_)
      have hl : lv_has ls 4 [(3, .int (bk_oth σ h k)), (0, .ref (ad 100)), (1, .ref (ad (120 + k))), (2, .int h)] := hl
      refine lv_aload_n hx hb dX2_work_48 rfl (lv_at hl 1 rfl) ?_
      refine lv_aload_n hx hb dX2_work_49 rfl (lv_at hl 2 rfl) ?_
      refine lv_aload_n hx hb dX2_work_50 rfl (lv_at hl 2 rfl) ?_
      refine xk_getN hAt hK (bcell hP k (by omega)) (C := RX4) (T := TX4) (N := 7) rfl 5 (by decide) (v := .int ((mk_wk0 nw k) (40 + k))) rfl q544 (fun _ h => h) in_X4 dX2_work_51 ?_
      refine lv_iload_n hx hb dX2_work_54 rfl (lv_at hl 0 rfl) ?_
      have J63_5 : ∀ (H : Heap) (locs : List Loc) (ls : Array Slot) (t0 : Int32), t0 = (if bk_oth σ h k ≤ 0 then 2 else 3) → bP D ad ρ σ (mk_wk0 nw k) n H → va_S A s.heap H locs → lv_has ls 4 [(3, .int (bk_oth σ h k)), (0, .ref (ad 100)), (1, .ref (ad (120 + k))), (2, .int h)] → W p l e (xk_R 2 43) s m args below meth c H locs 0 0 Q (F0 m 63 ls [.int t0, .int ((mk_wk0 nw k) (40 + k)), .ref (ad (120 + k)), .ref (ad 100)]) := by
        intro H locs ls t0 et0 hP hS hl
        subst et0
        refine lv_imul hx hb dX2_work_63 ?_
        refine lv_sipush (v := 999) hx hb dX2_work_64 (by decide) ?_
        refine va_mmin hx hb (hml.trans hl.1.symm) hown (hts _ q712) (hts _ q432) (hts _ q52) (hts _ q433) (Nat.le_of_ble_eq_true rfl) (Nat.le_of_ble_eq_true rfl) (Nat.le_refl _) (Nat.le_refl _) dX2_work_67 ?_
        refine xk_to (y := bk_wm σ h nw k) rfl ?_
        refine xk_cvV hAt hK (P := bP D ad ρ σ (mk_wk0 nw k) n) hP hA hS (xk_recv (q := (RX2, TX2, 7)) hK (b100 hP) rfl) (As := [.ref (ad (120 + k)), .int (bk_wm σ h nw k)]) (rest := []) (b_resizeI l D A ad ρ σ (mk_wk0 nw k) n hJ hn0 k (by omega) (bk_wm σ h nw k)) (cwV 2 hts (lw_V q713 q714 q715 q41 q716) rfl rfl rfl cdX2_resize ⟨Nat.le_of_ble_eq_true rfl, Nat.le_of_ble_eq_true rfl⟩) rfl hl.1 rfl (Nat.le_of_ble_eq_true rfl) dX2_work_70 ⟨Nat.le_refl _, Nat.le_refl _⟩ (fun H locs hP hS => ?_)
        exact hR _ _ _ _ dX2_work_73 (by rw [bk_wk, if_pos c_1]; exact hP) hS
      refine lv_if_le (tgt := 62) hx hb dX2_work_55 (by decide) (fun c_4 => ?_) (fun c_4 => ?_)
      · skip
        refine lv_iconst (v := 2) hx hb dX2_work_62 (by decide) ?_
        exact J63_5 _ _ _ 2 ((if_pos c_4).symm) hP hS (lv_sub hl [0, 1, 2, 3] rfl)
      refine lv_iconst (v := 3) hx hb dX2_work_58 (by decide) ?_
      refine lv_goto (tgt := 63) hx hb dX2_work_59 (by decide) ?_
      exact J63_5 _ _ _ 3 ((if_neg c_4).symm) hP hS (lv_sub hl [0, 1, 2, 3] rfl)
    refine lv_icmp_ne (tgt := 46) hx hb dX2_work_37 (by decide) (fun c_2 => ?_) (fun c_2 => ?_)
    · skip
      refine lv_iload_n hx hb dX2_work_46 rfl (lv_at hl 2 rfl) ?_
      exact J47_3 _ _ _ h ((if_neg c_2).symm) hP hS (lv_sub hl [0, 1, 2] rfl)
    refine lv_iload_n hx hb dX2_work_40 rfl (lv_at hl 2 rfl) ?_
    refine lv_iconst (v := 1) hx hb dX2_work_41 (by decide) ?_
    refine lv_isub hx hb dX2_work_42 ?_
    refine lv_goto (tgt := 47) hx hb dX2_work_43 (by decide) ?_
    exact J47_3 _ _ _ (h - 1) ((if_pos c_2).symm) hP hS (lv_sub hl [0, 1, 2] rfl)
  refine lv_aload_n hx hb dX2_work_26 rfl (lv_at hl 1 rfl) ?_
  refine lv_iconst (v := 4) hx hb dX2_work_27 (by decide) ?_
  refine xk_putN hAt hK hS (bcell hP k (by omega)) (hJ.2 (120 + k) (by unfold bk_dom; omega) (by unfold bk_box; omega)) (C := RX4) (T := TX4) (N := 7) rfl 4 (by decide) (v := .int 4) q541 (fun _ h => h) rfl (ty := .int) (by decide +kernel) rfl rfl tyX4 tyX4_ok nmX4 (Nat.le_of_ble_eq_true rfl) in_X4 dX2_work_28 (fun H locs ho oq hz hS => ?_)
  have hP : bP D ad ρ σ (upd (mk_wk0 nw k) k 4) n H := bP_cSt hJ hP hn0 k (by omega) ho oq
  exact hR _ _ _ _ dX2_work_31 (by rw [bk_wk, if_neg c_1]; exact hP) hS
set_option maxHeartbeats 4000000 in
theorem b_restI (l : Launch) (D : xk_G) (A : Nat → Prop) (ad : Nat → Nat) (ρ : Nat) (σ : Nat → Nat → Int32) (nw : Nat → Int32) (n : Nat → Nat) (hJ : bk_ok A ad n) (hn0 : bk_n n) (k : Nat) (hk : k < n 3) : Met l yX2_rest (ws_ yX2_rest cX2_rest 2 (none)) (xk_R 3 64) (xk_Pre D A (bP D ad ρ σ nw n) [.ref (ad 100), .ref (ad (120 + k))]) (xk_Pv A (fun H => bP D ad ρ σ (bk_rst nw k) n H)) 0 0 A := by
  refine xk_startV (by decide +kernel) (Nat.le_of_ble_eq_true rfl) ?_
  intro p e s m args below meth c Q hAt hin hK hA hP hR ls hl
  obtain ⟨hx, hb, hml, hown, hts⟩ := id hAt
  have hl : lv_has ls 2 [(0, .ref (ad 100)), (1, .ref (ad (120 + k)))] := hl
  have hS : va_S A s.heap s.heap [] := va_S.rf
  obtain ⟨h0m, h1m, h2m, h3m, h4m⟩ := id hn0
  refine lv_aload_n hx hb dX2_rest_0 rfl (lv_at hl 1 rfl) ?_
  refine xk_getN hAt hK (bcell hP k (by omega)) (C := RX4) (T := TX4) (N := 7) rfl 5 (by decide) (v := .int (nw (40 + k))) rfl q544 (fun _ h => h) in_X4 dX2_rest_1 ?_
  refine lv_iconst (v := 2) hx hb dX2_rest_4 (by decide) ?_
  refine lv_idiv hx hb dX2_rest_5 (by decide) ?_
  refine lv_iconst (v := 2) hx hb dX2_rest_6 (by decide) ?_
  have J29_2 : ∀ (H : Heap) (locs : List Loc) (ls : Array Slot) (znw : Nat → Int32), znw = (if 2 ≤ ((nw (40 + k)) / 2) then bk_sizes nw k ((nw (40 + k)) / 2) else bk_rem nw k) → bP D ad ρ σ znw n H → va_S A s.heap H locs → lv_has ls 2 [(0, .ref (ad 100)), (1, .ref (ad (120 + k)))] → W p l e (xk_R 3 64) s m args below meth c H locs 0 0 Q (F0 m 29 ls []) := by
    intro H locs ls znw eznw hP hS hl
    subst eznw
    exact hR _ _ _ _ dX2_rest_29 (hP) hS
  refine lv_icmp_ge (tgt := 18) hx hb dX2_rest_7 (by decide) (fun c_1 => ?_) (fun c_1 => ?_)
  · skip
    refine lv_aload_n hx hb dX2_rest_18 rfl (lv_at hl 0 rfl) ?_
    refine lv_aload_n hx hb dX2_rest_19 rfl (lv_at hl 1 rfl) ?_
    refine lv_aload_n hx hb dX2_rest_20 rfl (lv_at hl 1 rfl) ?_
    refine xk_getN hAt hK (bcell hP k (by omega)) (C := RX4) (T := TX4) (N := 7) rfl 5 (by decide) (v := .int (nw (40 + k))) rfl q544 (fun _ h => h) in_X4 dX2_rest_21 ?_
    refine lv_iconst (v := 2) hx hb dX2_rest_24 (by decide) ?_
    refine lv_idiv hx hb dX2_rest_25 (by decide) ?_
    refine xk_cvV hAt hK (P := bP D ad ρ σ nw n) hP hA hS (xk_recv (q := (RX2, TX2, 7)) hK (b100 hP) rfl) (As := [.ref (ad (120 + k)), .int ((nw (40 + k)) / 2)]) (rest := []) (b_resizeI l D A ad ρ σ nw n hJ hn0 k (by omega) ((nw (40 + k)) / 2)) (cwV 2 hts (lw_V q713 q714 q715 q41 q716) rfl rfl rfl cdX2_resize ⟨Nat.le_of_ble_eq_true rfl, Nat.le_of_ble_eq_true rfl⟩) rfl hl.1 rfl (Nat.le_of_ble_eq_true rfl) dX2_rest_26 ⟨Nat.le_refl _, Nat.le_refl _⟩ (fun H locs hP hS => ?_)
    exact J29_2 _ _ _ (bk_sizes nw k ((nw (40 + k)) / 2)) ((if_pos c_1).symm) hP hS (lv_sub hl [0, 1] rfl)
  refine lv_aload_n hx hb dX2_rest_10 rfl (lv_at hl 0 rfl) ?_
  refine lv_aload_n hx hb dX2_rest_11 rfl (lv_at hl 1 rfl) ?_
  refine xk_cvV hAt hK (P := bP D ad ρ σ nw n) hP hA hS (xk_recv (q := (RX2, TX2, 7)) hK (b100 hP) rfl) (As := [.ref (ad (120 + k))]) (rest := []) (b_rememberI l D A ad ρ σ nw n hJ hn0 k (by omega)) (cwV 1 hts (lw_V q722 q723 q724 q41 q725) rfl rfl rfl cdX2_remember ⟨Nat.le_of_ble_eq_true rfl, Nat.le_of_ble_eq_true rfl⟩) rfl hl.1 rfl (Nat.le_of_ble_eq_true rfl) dX2_rest_12 ⟨Nat.le_refl _, Nat.le_refl _⟩ (fun H locs hP hS => ?_)
  refine lv_goto (tgt := 29) hx hb dX2_rest_15 (by decide) ?_
  exact J29_2 _ _ _ (bk_rem nw k) ((if_neg c_1).symm) hP hS (lv_sub hl [0, 1] rfl)
set_option maxHeartbeats 4000000 in
theorem b_workAllI (l : Launch) (D : xk_G) (A : Nat → Prop) (ad : Nat → Nat) (ρ : Nat) (σ : Nat → Nat → Int32) (nw : Nat → Int32) (n : Nat → Nat) (hJ : bk_ok A ad n) (hn0 : bk_n n)  : Met l yX2_workAll (ws_ yX2_workAll cX2_workAll 4 (none)) (xk_R 6 137) (xk_Pre D A (bP D ad ρ σ nw n) [.ref (ad 100)]) (xk_Pv A (fun H => bP D ad ρ σ (bk_work σ n nw) n H)) 0 0 A := by
  refine xk_startV (by decide +kernel) (Nat.le_of_ble_eq_true rfl) ?_
  intro p e s m args below meth c Q hAt hin hK hA hP hR ls hl
  obtain ⟨hx, hb, hml, hown, hts⟩ := id hAt
  have hl : lv_has ls 4 [(0, .ref (ad 100))] := hl
  have hS : va_S A s.heap s.heap [] := va_S.rf
  obtain ⟨h0m, h1m, h2m, h3m, h4m⟩ := id hn0
  refine lv_aload_n hx hb dX2_workAll_0 rfl (lv_at hl 0 rfl) ?_
  refine xk_ciV hAt hK (P := bP D ad ρ σ nw n) hP hA hS (xk_recv (q := (RX2, TX2, 7)) hK (b100 hP) rfl) (As := []) (rest := []) (b_helpersI l D A ad ρ σ nw n (by assumption) (by assumption)) (cwV 0 hts (lw_V q703 q704 q705 q41 q706) rfl rfl rfl cdX2_helpers ⟨Nat.le_of_ble_eq_true rfl, Nat.le_of_ble_eq_true rfl⟩) rfl hl.1 rfl (Nat.le_of_ble_eq_true rfl) dX2_workAll_1 ⟨Nat.le_refl _, Nat.le_refl _⟩ (fun r H locs hq hS => ?_)
  obtain ⟨rfl, hP⟩ := hq
  refine lv_istore_n (lv' := [(1, .int (bk_hlpR σ nw n (n 3))), (0, .ref (ad 100))]) hx hb dX2_workAll_4 rfl hl (by decide) rfl (fun ls hl => ?_)
  refine lv_iconst (v := 0) hx hb dX2_workAll_5 (by decide) ?_
  refine lv_istore_n (lv' := [(2, .int 0), (1, .int (bk_hlpR σ nw n (n 3))), (0, .ref (ad 100))]) hx hb dX2_workAll_6 rfl hl (by decide) rfl (fun ls hl => ?_)
  have L7 : ∀ (fu i2 : Nat), n 3 + 1 ≤ i2 + fu → i2 ≤ n 3 → ∀ (H : Heap) (locs : List Loc) (ls : Array Slot) (znw : Nat → Int32), znw = bk_workR σ n (bk_hlpR σ nw n (n 3)) nw i2 → bP D ad ρ σ znw n H → va_S A s.heap H locs → lv_has ls 4 [(2, .int (nI i2)), (1, .int (bk_hlpR σ nw n (n 3))), (0, .ref (ad 100))] → W p l e (xk_R 6 137) s m args below meth c H locs 0 0 Q (F0 m 7 ls []) := by
    intro fu
    induction fu with
    | zero => intro i2 h7a h7b; exact absurd h7a (by omega)
    | succ fu ih7 =>
      intro i2 h7a h7b  H locs ls znw eznw hP hS hl
      subst eznw
      refine lv_iload_n hx hb dX2_workAll_7 rfl (lv_at hl 0 rfl) ?_
      refine lv_aload_n hx hb dX2_workAll_8 rfl (lv_at hl 2 rfl) ?_
      refine xk_getO hAt hK (b100 hP) (C := RX2) (T := TX2) (N := 7) rfl 0 (by decide) (v := .ref (ad 101)) rfl (hts _ q109) (fun _ h => h) in_X2 dX2_workAll_9 ?_
      refine xk_ciF hAt hK (P := bP D ad ρ σ (bk_workR σ n (bk_hlpR σ nw n (n 3)) nw i2) n) hP hA hS (xk_recvL hK (bcl hP)) (As := []) (rest := [.int (nI i2)]) (al_size l D A (bP D ad ρ σ (bk_workR σ n (bk_hlpR σ nw n (n 3)) nw i2) n) (ad 101) (ad 104) (n 3) (fun j => ad (120 + j)) (fun _ h => bcl h)) (va_cwF 0 hts (xk_lwF q671 q240 q242 q40 q244) rfl rfl rfl hK.2.2.1 (by decide +kernel) ⟨Nat.le_of_ble_eq_true rfl, Nat.le_of_ble_eq_true rfl⟩) rfl hl.1 rfl (Nat.le_of_ble_eq_true rfl) dX2_workAll_12 ⟨Nat.le_refl _, Nat.le_refl _⟩ (fun r H locs hq hS => ?_)
      obtain ⟨rfl, hP⟩ := hq
      refine mk_ge (tgt := 78) (a := i2) (b := n 3) hx hb (by omega) (by omega) dX2_workAll_17 (by decide) (fun c_1 => ?_) (fun c_1 => ?_)
      · skip
        obtain rfl : i2 = n 3 := by omega
        exact hR _ _ _ _ dX2_workAll_78 (hP) hS
      refine lv_aload_n hx hb dX2_workAll_20 rfl (lv_at hl 2 rfl) ?_
      refine xk_getO hAt hK (b100 hP) (C := RX2) (T := TX2) (N := 7) rfl 0 (by decide) (v := .ref (ad 101)) rfl (hts _ q109) (fun _ h => h) in_X2 dX2_workAll_21 ?_
      refine lv_iload_n hx hb dX2_workAll_24 rfl (lv_at hl 0 rfl) ?_
      refine xk_crF hAt hK (P := bP D ad ρ σ (bk_workR σ n (bk_hlpR σ nw n (n 3)) nw i2) n) hP hA hS (xk_recvL hK (bcl hP)) (As := [.int (nI i2)]) (rest := []) (al_get l D A (bP D ad ρ σ (bk_workR σ n (bk_hlpR σ nw n (n 3)) nw i2) n) (ad 101) (ad 104) (n 3) (fun j => ad (120 + j)) (fun _ h => bcl h) i2 (by omega) (by omega)) (va_cwF 1 hts (xk_lwF q673 q253 q255 q40 q257) rfl rfl rfl hK.2.2.2.1 (by decide +kernel) ⟨Nat.le_of_ble_eq_true rfl, Nat.le_of_ble_eq_true rfl⟩) rfl hl.1 rfl (Nat.le_of_ble_eq_true rfl) dX2_workAll_25 ⟨Nat.le_refl _, Nat.le_refl _⟩ (fun r H locs hq hS => ?_)
      have hq : r = ad (120 + i2) ∧ bP D ad ρ σ (bk_workR σ n (bk_hlpR σ nw n (n 3)) nw i2) n H := hq
      obtain ⟨rfl, hP⟩ := hq
      refine xk_cast hAt hK (bcell hP i2 (by omega)) rfl rfl (hts _ q688) dX2_workAll_30 ?_
      refine lv_astore_n (lv' := [(3, .ref (ad (120 + i2))), (2, .int (nI i2)), (1, .int (bk_hlpR σ nw n (n 3))), (0, .ref (ad 100))]) hx hb dX2_workAll_33 rfl hl (by decide) rfl (fun ls hl => ?_)
      refine lv_aload_n hx hb dX2_workAll_34 rfl (lv_at hl 0 rfl) ?_
      refine xk_getN hAt hK (bcell hP i2 (by omega)) (C := RX4) (T := TX4) (N := 7) rfl 4 (by decide) (v := .int ((bk_workR σ n (bk_hlpR σ nw n (n 3)) nw i2) i2)) rfl q541 (fun _ h => h) in_X4 dX2_workAll_35 ?_
      refine lv_iconst (v := 3) hx hb dX2_workAll_38 (by decide) ?_
      have J72_3 : ∀ (H : Heap) (locs : List Loc) (ls : Array Slot) (znw : Nat → Int32), znw = (if (bk_workR σ n (bk_hlpR σ nw n (n 3)) nw i2) i2 = 3 then (if mk_mts σ (bk_workR σ n (bk_hlpR σ nw n (n 3)) nw i2) n (σ 6 i2) then bk_wk σ (bk_hlpR σ nw n (n 3)) (bk_workR σ n (bk_hlpR σ nw n (n 3)) nw i2) i2 else (if (bk_workR σ n (bk_hlpR σ nw n (n 3)) nw i2) i2 = 3 then bk_rst (bk_workR σ n (bk_hlpR σ nw n (n 3)) nw i2) i2 else bk_workR σ n (bk_hlpR σ nw n (n 3)) nw i2)) else (if (bk_workR σ n (bk_hlpR σ nw n (n 3)) nw i2) i2 = 3 then bk_rst (bk_workR σ n (bk_hlpR σ nw n (n 3)) nw i2) i2 else bk_workR σ n (bk_hlpR σ nw n (n 3)) nw i2)) → bP D ad ρ σ znw n H → va_S A s.heap H locs → lv_has ls 4 [(3, .ref (ad (120 + i2))), (2, .int (nI i2)), (1, .int (bk_hlpR σ nw n (n 3))), (0, .ref (ad 100))] → W p l e (xk_R 6 137) s m args below meth c H locs 0 0 Q (F0 m 72 ls []) := by
        intro H locs ls znw eznw hP hS hl
        subst eznw
        refine lv_iinc (v := nI (i2 + 1)) (lv' := [(2, .int (nI (i2 + 1))), (3, .ref (ad (120 + i2))), (1, .int (bk_hlpR σ nw n (n 3))), (0, .ref (ad 100))]) hx hb dX2_workAll_72 hl (k := 1) rfl (xk_inc i2) (by decide) rfl (fun ls hl => ?_)
        refine lv_goto (tgt := 7) hx hb dX2_workAll_75 (by decide) ?_
        exact ih7 (i2 + 1) (by omega) (by omega)  _ _ _ (if (bk_workR σ n (bk_hlpR σ nw n (n 3)) nw i2) i2 = 3 then (if mk_mts σ (bk_workR σ n (bk_hlpR σ nw n (n 3)) nw i2) n (σ 6 i2) then bk_wk σ (bk_hlpR σ nw n (n 3)) (bk_workR σ n (bk_hlpR σ nw n (n 3)) nw i2) i2 else (if (bk_workR σ n (bk_hlpR σ nw n (n 3)) nw i2) i2 = 3 then bk_rst (bk_workR σ n (bk_hlpR σ nw n (n 3)) nw i2) i2 else bk_workR σ n (bk_hlpR σ nw n (n 3)) nw i2)) else (if (bk_workR σ n (bk_hlpR σ nw n (n 3)) nw i2) i2 = 3 then bk_rst (bk_workR σ n (bk_hlpR σ nw n (n 3)) nw i2) i2 else bk_workR σ n (bk_hlpR σ nw n (n 3)) nw i2)) (rfl) hP hS (lv_sub hl [0, 2, 3] rfl)
      refine lv_icmp_ne (tgt := 59) hx hb dX2_workAll_39 (by decide) (fun c_2 => ?_) (fun c_2 => ?_)
      · skip
        refine lv_aload_n hx hb dX2_workAll_59 rfl (lv_at hl 0 rfl) ?_
        refine xk_getN hAt hK (bcell hP i2 (by omega)) (C := RX4) (T := TX4) (N := 7) rfl 4 (by decide) (v := .int ((bk_workR σ n (bk_hlpR σ nw n (n 3)) nw i2) i2)) rfl q541 (fun _ h => h) in_X4 dX2_workAll_60 ?_
        refine lv_iconst (v := 3) hx hb dX2_workAll_63 (by decide) ?_
        refine lv_icmp_ne (tgt := 72) hx hb dX2_workAll_64 (by decide) (fun c_4 => ?_) (fun c_4 => ?_)
        · skip
          exact J72_3 _ _ _ (bk_workR σ n (bk_hlpR σ nw n (n 3)) nw i2) (((if_neg c_4).symm).trans (if_neg c_2).symm) hP hS (lv_sub hl [0, 1, 2, 3] rfl)
        refine lv_aload_n hx hb dX2_workAll_67 rfl (lv_at hl 3 rfl) ?_
        refine lv_aload_n hx hb dX2_workAll_68 rfl (lv_at hl 0 rfl) ?_
        refine xk_cvV hAt hK (P := bP D ad ρ σ (bk_workR σ n (bk_hlpR σ nw n (n 3)) nw i2) n) hP hA hS (xk_recv (q := (RX2, TX2, 7)) hK (b100 hP) rfl) (As := [.ref (ad (120 + i2))]) (rest := []) (b_restI l D A ad ρ σ (bk_workR σ n (bk_hlpR σ nw n (n 3)) nw i2) n hJ hn0 i2 (by omega)) (cwV 1 hts (lw_V q718 q719 q720 q41 q721) rfl rfl rfl cdX2_rest ⟨Nat.le_of_ble_eq_true rfl, Nat.le_of_ble_eq_true rfl⟩) rfl hl.1 rfl (Nat.le_of_ble_eq_true rfl) dX2_workAll_69 ⟨Nat.le_refl _, Nat.le_refl _⟩ (fun H locs hP hS => ?_)
        exact J72_3 _ _ _ (bk_rst (bk_workR σ n (bk_hlpR σ nw n (n 3)) nw i2) i2) (((if_pos c_4).symm).trans (if_neg c_2).symm) hP hS (lv_sub hl [0, 1, 2, 3] rfl)
      refine lv_aload_n hx hb dX2_workAll_42 rfl (lv_at hl 3 rfl) ?_
      refine lv_aload_n hx hb dX2_workAll_43 rfl (lv_at hl 0 rfl) ?_
      refine xk_ciV hAt hK (P := bP D ad ρ σ (bk_workR σ n (bk_hlpR σ nw n (n 3)) nw i2) n) hP hA hS (xk_recv (q := (RX2, TX2, 7)) hK (b100 hP) rfl) (As := [.ref (ad (120 + i2))]) (rest := []) (b_meetsI l D A ad ρ σ (bk_workR σ n (bk_hlpR σ nw n (n 3)) nw i2) n (by assumption) (by assumption) i2 (by omega)) (cwV 1 hts (lw_V q689 q690 q691 q41 q692) rfl rfl rfl cdX2_meets ⟨Nat.le_of_ble_eq_true rfl, Nat.le_of_ble_eq_true rfl⟩) rfl hl.1 rfl (Nat.le_of_ble_eq_true rfl) dX2_workAll_44 ⟨Nat.le_refl _, Nat.le_refl _⟩ (fun r H locs hq hS => ?_)
      obtain ⟨rfl, hP⟩ := hq
      refine xk_ifeq (tgt := 59) hx hb dX2_workAll_47 (by decide) (fun c_5 => ?_) (fun c_5 => ?_)
      · skip
        refine lv_aload_n hx hb dX2_workAll_59 rfl (lv_at hl 0 rfl) ?_
        refine xk_getN hAt hK (bcell hP i2 (by omega)) (C := RX4) (T := TX4) (N := 7) rfl 4 (by decide) (v := .int ((bk_workR σ n (bk_hlpR σ nw n (n 3)) nw i2) i2)) rfl q541 (fun _ h => h) in_X4 dX2_workAll_60 ?_
        refine lv_iconst (v := 3) hx hb dX2_workAll_63 (by decide) ?_
        refine lv_icmp_ne (tgt := 72) hx hb dX2_workAll_64 (by decide) (fun c_6 => ?_) (fun c_6 => ?_)
        · skip
          exact J72_3 _ _ _ (bk_workR σ n (bk_hlpR σ nw n (n 3)) nw i2) ((((if_neg c_6).symm).trans (if_neg c_5).symm).trans (if_pos c_2).symm) hP hS (lv_sub hl [0, 1, 2, 3] rfl)
        refine lv_aload_n hx hb dX2_workAll_67 rfl (lv_at hl 3 rfl) ?_
        refine lv_aload_n hx hb dX2_workAll_68 rfl (lv_at hl 0 rfl) ?_
        refine xk_cvV hAt hK (P := bP D ad ρ σ (bk_workR σ n (bk_hlpR σ nw n (n 3)) nw i2) n) hP hA hS (xk_recv (q := (RX2, TX2, 7)) hK (b100 hP) rfl) (As := [.ref (ad (120 + i2))]) (rest := []) (b_restI l D A ad ρ σ (bk_workR σ n (bk_hlpR σ nw n (n 3)) nw i2) n hJ hn0 i2 (by omega)) (cwV 1 hts (lw_V q718 q719 q720 q41 q721) rfl rfl rfl cdX2_rest ⟨Nat.le_of_ble_eq_true rfl, Nat.le_of_ble_eq_true rfl⟩) rfl hl.1 rfl (Nat.le_of_ble_eq_true rfl) dX2_workAll_69 ⟨Nat.le_refl _, Nat.le_refl _⟩ (fun H locs hP hS => ?_)
        exact J72_3 _ _ _ (bk_rst (bk_workR σ n (bk_hlpR σ nw n (n 3)) nw i2) i2) ((((if_pos c_6).symm).trans (if_neg c_5).symm).trans (if_pos c_2).symm) hP hS (lv_sub hl [0, 1, 2, 3] rfl)
      refine lv_aload_n hx hb dX2_workAll_50 rfl (lv_at hl 3 rfl) ?_
      refine lv_aload_n hx hb dX2_workAll_51 rfl (lv_at hl 0 rfl) ?_
      refine lv_iload_n hx hb dX2_workAll_52 rfl (lv_at hl 2 rfl) ?_
      refine xk_cvV hAt hK (P := bP D ad ρ σ (bk_workR σ n (bk_hlpR σ nw n (n 3)) nw i2) n) hP hA hS (xk_recv (q := (RX2, TX2, 7)) hK (b100 hP) rfl) (As := [.ref (ad (120 + i2)), .int (bk_hlpR σ nw n (n 3))]) (rest := []) (b_workI l D A ad ρ σ (bk_workR σ n (bk_hlpR σ nw n (n 3)) nw i2) n hJ hn0 i2 (by omega) (bk_hlpR σ nw n (n 3))) (cwV 2 hts (lw_V q708 q709 q710 q41 q711) rfl rfl rfl cdX2_work ⟨Nat.le_of_ble_eq_true rfl, Nat.le_of_ble_eq_true rfl⟩) rfl hl.1 rfl (Nat.le_of_ble_eq_true rfl) dX2_workAll_53 ⟨Nat.le_refl _, Nat.le_refl _⟩ (fun H locs hP hS => ?_)
      refine lv_goto (tgt := 72) hx hb dX2_workAll_56 (by decide) ?_
      exact J72_3 _ _ _ (bk_wk σ (bk_hlpR σ nw n (n 3)) (bk_workR σ n (bk_hlpR σ nw n (n 3)) nw i2) i2) (((if_pos c_5).symm).trans (if_pos c_2).symm) hP hS (lv_sub hl [0, 1, 2, 3] rfl)
  exact L7 (n 3 + 1) 0 (by omega) (by omega)  _ _ _ nw (rfl) hP hS (lv_sub hl [0, 1, 2] rfl)
set_option maxHeartbeats 4000000 in
theorem b_strikeAllI (l : Launch) (D : xk_G) (A : Nat → Prop) (ad : Nat → Nat) (ρ : Nat) (σ : Nat → Nat → Int32) (nw : Nat → Int32) (n : Nat → Nat) (hJ : bk_ok A ad n) (hn0 : bk_n n)  : Met l yX2_strikeAll (ws_ yX2_strikeAll cX2_strikeAll 5 (none)) (xk_R 4 93) (xk_Pre D A (bP D ad ρ σ nw n) [.ref (ad 100)]) (xk_Pv A (fun H => bP D ad ρ σ (bk_strikeR σ n nw (n 3)) n H)) 0 0 A := by
  refine xk_startV (by decide +kernel) (Nat.le_of_ble_eq_true rfl) ?_
  intro p e s m args below meth c Q hAt hin hK hA hP hR ls hl
  obtain ⟨hx, hb, hml, hown, hts⟩ := id hAt
  have hl : lv_has ls 5 [(0, .ref (ad 100))] := hl
  have hS : va_S A s.heap s.heap [] := va_S.rf
  obtain ⟨h0m, h1m, h2m, h3m, h4m⟩ := id hn0
  refine lv_iconst (v := 0) hx hb dX2_strikeAll_0 (by decide) ?_
  refine lv_istore_n (lv' := [(1, .int 0), (0, .ref (ad 100))]) hx hb dX2_strikeAll_1 rfl hl (by decide) rfl (fun ls hl => ?_)
  have L2 : ∀ (fu i2 : Nat), n 3 + 1 ≤ i2 + fu → i2 ≤ n 3 → ∀ (H : Heap) (locs : List Loc) (ls : Array Slot) (znw : Nat → Int32), znw = bk_strikeR σ n nw i2 → bP D ad ρ σ znw n H → va_S A s.heap H locs → lv_has ls 5 [(1, .int (nI i2)), (0, .ref (ad 100))] → W p l e (xk_R 4 93) s m args below meth c H locs 0 0 Q (F0 m 2 ls []) := by
    intro fu
    induction fu with
    | zero => intro i2 h2a h2b; exact absurd h2a (by omega)
    | succ fu ih2 =>
      intro i2 h2a h2b  H locs ls znw eznw hP hS hl
      subst eznw
      refine lv_iload_n hx hb dX2_strikeAll_2 rfl (lv_at hl 0 rfl) ?_
      refine lv_aload_n hx hb dX2_strikeAll_3 rfl (lv_at hl 1 rfl) ?_
      refine xk_getO hAt hK (b100 hP) (C := RX2) (T := TX2) (N := 7) rfl 0 (by decide) (v := .ref (ad 101)) rfl (hts _ q109) (fun _ h => h) in_X2 dX2_strikeAll_4 ?_
      refine xk_ciF hAt hK (P := bP D ad ρ σ (bk_strikeR σ n nw i2) n) hP hA hS (xk_recvL hK (bcl hP)) (As := []) (rest := [.int (nI i2)]) (al_size l D A (bP D ad ρ σ (bk_strikeR σ n nw i2) n) (ad 101) (ad 104) (n 3) (fun j => ad (120 + j)) (fun _ h => bcl h)) (va_cwF 0 hts (xk_lwF q671 q240 q242 q40 q244) rfl rfl rfl hK.2.2.1 (by decide +kernel) ⟨Nat.le_of_ble_eq_true rfl, Nat.le_of_ble_eq_true rfl⟩) rfl hl.1 rfl (Nat.le_of_ble_eq_true rfl) dX2_strikeAll_7 ⟨Nat.le_refl _, Nat.le_refl _⟩ (fun r H locs hq hS => ?_)
      obtain ⟨rfl, hP⟩ := hq
      refine mk_ge (tgt := 111) (a := i2) (b := n 3) hx hb (by omega) (by omega) dX2_strikeAll_12 (by decide) (fun c_1 => ?_) (fun c_1 => ?_)
      · skip
        obtain rfl : i2 = n 3 := by omega
        exact hR _ _ _ _ dX2_strikeAll_111 (hP) hS
      refine lv_aload_n hx hb dX2_strikeAll_15 rfl (lv_at hl 1 rfl) ?_
      refine xk_getO hAt hK (b100 hP) (C := RX2) (T := TX2) (N := 7) rfl 0 (by decide) (v := .ref (ad 101)) rfl (hts _ q109) (fun _ h => h) in_X2 dX2_strikeAll_16 ?_
      refine lv_iload_n hx hb dX2_strikeAll_19 rfl (lv_at hl 0 rfl) ?_
      refine xk_crF hAt hK (P := bP D ad ρ σ (bk_strikeR σ n nw i2) n) hP hA hS (xk_recvL hK (bcl hP)) (As := [.int (nI i2)]) (rest := []) (al_get l D A (bP D ad ρ σ (bk_strikeR σ n nw i2) n) (ad 101) (ad 104) (n 3) (fun j => ad (120 + j)) (fun _ h => bcl h) i2 (by omega) (by omega)) (va_cwF 1 hts (xk_lwF q673 q253 q255 q40 q257) rfl rfl rfl hK.2.2.2.1 (by decide +kernel) ⟨Nat.le_of_ble_eq_true rfl, Nat.le_of_ble_eq_true rfl⟩) rfl hl.1 rfl (Nat.le_of_ble_eq_true rfl) dX2_strikeAll_20 ⟨Nat.le_refl _, Nat.le_refl _⟩ (fun r H locs hq hS => ?_)
      have hq : r = ad (120 + i2) ∧ bP D ad ρ σ (bk_strikeR σ n nw i2) n H := hq
      obtain ⟨rfl, hP⟩ := hq
      refine xk_cast hAt hK (bcell hP i2 (by omega)) rfl rfl (hts _ q688) dX2_strikeAll_25 ?_
      refine lv_astore_n (lv' := [(2, .ref (ad (120 + i2))), (1, .int (nI i2)), (0, .ref (ad 100))]) hx hb dX2_strikeAll_28 rfl hl (by decide) rfl (fun ls hl => ?_)
      refine lv_aload_n hx hb dX2_strikeAll_29 rfl (lv_at hl 0 rfl) ?_
      refine lv_iconst (v := 0) hx hb dX2_strikeAll_30 (by decide) ?_
      refine lv_iconst (v := 3) hx hb dX2_strikeAll_31 (by decide) ?_
      refine xk_ciV hAt hK (P := bP D ad ρ σ (bk_strikeR σ n nw i2) n) hP hA hS (xk_recv (q := (RX4, TX4, 7)) hK (bcell hP i2 (by omega)) rfl) (As := [.int 0, .int 3]) (rest := []) (b_isC l D A ad ρ σ (bk_strikeR σ n nw i2) n (by assumption) i2 (by omega) 0 3) (cwV 2 hts (lw_V q707 q656 q657 q60 q658) rfl rfl rfl cdX4_is ⟨Nat.le_of_ble_eq_true rfl, Nat.le_of_ble_eq_true rfl⟩) rfl hl.1 rfl (Nat.le_of_ble_eq_true rfl) dX2_strikeAll_32 ⟨Nat.le_refl _, Nat.le_refl _⟩ (fun r H locs hq hS => ?_)
      obtain ⟨rfl, hP⟩ := hq
      have J47_3 : ∀ (H : Heap) (locs : List Loc) (ls : Array Slot) (t0 : Int32), t0 = (if bk_is σ (bk_strikeR σ n nw i2) i2 0 3 then mk_met σ (bk_strikeR σ n nw i2) n (σ 6 i2) else (-1)) → bP D ad ρ σ (bk_strikeR σ n nw i2) n H → va_S A s.heap H locs → lv_has ls 5 [(2, .ref (ad (120 + i2))), (1, .int (nI i2)), (0, .ref (ad 100))] → W p l e (xk_R 4 93) s m args below meth c H locs 0 0 Q (F0 m 47 ls [.int t0]) := by
        intro H locs ls t0 et0 hP hS hl
        subst et0
        refine lv_istore_n (lv' := [(3, .int (if bk_is σ (bk_strikeR σ n nw i2) i2 0 3 then mk_met σ (bk_strikeR σ n nw i2) n (σ 6 i2) else (-1))), (2, .ref (ad (120 + i2))), (1, .int (nI i2)), (0, .ref (ad 100))]) hx hb dX2_strikeAll_47 rfl hl (by decide) rfl (fun ls hl => ?_)
        have hl : lv_has ls 5 [(3, .int (bk_its σ (bk_strikeR σ n nw i2) n i2)), (2, .ref (ad (120 + i2))), (1, .int (nI i2)), (0, .ref (ad 100))] := hl
        refine lv_iload_n hx hb dX2_strikeAll_48 rfl (lv_at hl 0 rfl) ?_
        refine lv_iconst (v := (-1)) hx hb dX2_strikeAll_49 (by decide) ?_
        have J105_5 : ∀ (H : Heap) (locs : List Loc) (ls : Array Slot) (v3 : Int32) (znw : Nat → Int32), v3 = (if bk_its σ (bk_strikeR σ n nw i2) n i2 = (-1) then bk_its σ (bk_strikeR σ n nw i2) n i2 else nI ((bk_its σ (bk_strikeR σ n nw i2) n i2).toNatClampNeg)) → znw = (if bk_its σ (bk_strikeR σ n nw i2) n i2 = (-1) then bk_strikeR σ n nw i2 else upd (bk_str1 (bk_strikeR σ n nw i2) i2 (bk_its σ (bk_strikeR σ n nw i2) n i2).toNatClampNeg) (128 + (bk_its σ (bk_strikeR σ n nw i2) n i2).toNatClampNeg) (if (bk_str1 (bk_strikeR σ n nw i2) i2 (bk_its σ (bk_strikeR σ n nw i2) n i2).toNatClampNeg) (120 + (bk_its σ (bk_strikeR σ n nw i2) n i2).toNatClampNeg) = 0 then nI i2 else (-1))) → bP D ad ρ σ znw n H → va_S A s.heap H locs → lv_has ls 5 [(3, .int v3), (2, .ref (ad (120 + i2))), (1, .int (nI i2)), (0, .ref (ad 100))] → W p l e (xk_R 4 93) s m args below meth c H locs 0 0 Q (F0 m 105 ls []) := by
          intro H locs ls v3 znw ev3 eznw hP hS hl
          subst ev3
          subst eznw
          refine lv_iinc (v := nI (i2 + 1)) (lv' := [(1, .int (nI (i2 + 1))), (3, .int (if bk_its σ (bk_strikeR σ n nw i2) n i2 = (-1) then bk_its σ (bk_strikeR σ n nw i2) n i2 else nI ((bk_its σ (bk_strikeR σ n nw i2) n i2).toNatClampNeg))), (2, .ref (ad (120 + i2))), (0, .ref (ad 100))]) hx hb dX2_strikeAll_105 hl (k := 2) rfl (xk_inc i2) (by decide) rfl (fun ls hl => ?_)
          refine lv_goto (tgt := 2) hx hb dX2_strikeAll_108 (by decide) ?_
          exact ih2 (i2 + 1) (by omega) (by omega)  _ _ _ (if bk_its σ (bk_strikeR σ n nw i2) n i2 = (-1) then bk_strikeR σ n nw i2 else upd (bk_str1 (bk_strikeR σ n nw i2) i2 (bk_its σ (bk_strikeR σ n nw i2) n i2).toNatClampNeg) (128 + (bk_its σ (bk_strikeR σ n nw i2) n i2).toNatClampNeg) (if (bk_str1 (bk_strikeR σ n nw i2) i2 (bk_its σ (bk_strikeR σ n nw i2) n i2).toNatClampNeg) (120 + (bk_its σ (bk_strikeR σ n nw i2) n i2).toNatClampNeg) = 0 then nI i2 else (-1))) (rfl) hP hS (lv_sub hl [0, 3] rfl)
        refine lv_icmp_eq (tgt := 105) hx hb dX2_strikeAll_50 (by decide) (fun c_4 => ?_) (fun c_4 => ?_)
        · skip
          exact J105_5 _ _ _ (bk_its σ (bk_strikeR σ n nw i2) n i2) (bk_strikeR σ n nw i2) ((if_pos c_4).symm) ((if_pos c_4).symm) hP hS (lv_sub hl [0, 1, 2, 3] rfl)
        have hix := mk_ix_of (by omega) (bk_its_ix σ (bk_strikeR σ n nw i2) n i2) c_4
        have hix2 := hix.2.1
        have hl : lv_has ls 5 [(3, .int (nI ((bk_its σ (bk_strikeR σ n nw i2) n i2).toNatClampNeg))), (2, .ref (ad (120 + i2))), (1, .int (nI i2)), (0, .ref (ad 100))] := by rw [← hix.1]; exact hl
        refine lv_aload_n hx hb dX2_strikeAll_53 rfl (lv_at hl 3 rfl) ?_
        refine xk_getO hAt hK (b100 hP) (C := RX2) (T := TX2) (N := 7) rfl 1 (by decide) (v := .ref (ad 102)) rfl (hts _ q111) (fun _ h => h) in_X2 dX2_strikeAll_54 ?_
        refine lv_iload_n hx hb dX2_strikeAll_57 rfl (lv_at hl 0 rfl) ?_
        refine xk_crF hAt hK (P := bP D ad ρ σ (bk_strikeR σ n nw i2) n) hP hA hS (xk_recvL hK (bvl hP)) (As := [.int (nI ((bk_its σ (bk_strikeR σ n nw i2) n i2).toNatClampNeg))]) (rest := []) (al_get l D A (bP D ad ρ σ (bk_strikeR σ n nw i2) n) (ad 102) (ad 105) (n 4) (fun j => ad (110 + j)) (fun _ h => bvl h) ((bk_its σ (bk_strikeR σ n nw i2) n i2).toNatClampNeg) (by omega) (by omega)) (va_cwF 1 hts (xk_lwF q673 q253 q255 q40 q257) rfl rfl rfl hK.2.2.2.1 (by decide +kernel) ⟨Nat.le_of_ble_eq_true rfl, Nat.le_of_ble_eq_true rfl⟩) rfl hl.1 rfl (Nat.le_of_ble_eq_true rfl) dX2_strikeAll_58 ⟨Nat.le_refl _, Nat.le_refl _⟩ (fun r H locs hq hS => ?_)
        have hq : r = ad (110 + (bk_its σ (bk_strikeR σ n nw i2) n i2).toNatClampNeg) ∧ bP D ad ρ σ (bk_strikeR σ n nw i2) n H := hq
        obtain ⟨rfl, hP⟩ := hq
        refine xk_cast hAt hK (binv hP ((bk_its σ (bk_strikeR σ n nw i2) n i2).toNatClampNeg) (by omega)) rfl rfl (hts _ q674) dX2_strikeAll_63 ?_
        refine lv_astore (lv' := [(4, .ref (ad (110 + (bk_its σ (bk_strikeR σ n nw i2) n i2).toNatClampNeg))), (3, .int (nI ((bk_its σ (bk_strikeR σ n nw i2) n i2).toNatClampNeg))), (2, .ref (ad (120 + i2))), (1, .int (nI i2)), (0, .ref (ad 100))]) hx hb dX2_strikeAll_66 hl (by decide) rfl (fun ls hl => ?_)
        refine lv_aload hx hb dX2_strikeAll_68 (lv_at hl 0 rfl) ?_
        refine lv_aload hx hb dX2_strikeAll_70 (lv_at hl 0 rfl) ?_
        refine xk_getN hAt hK (binv hP ((bk_its σ (bk_strikeR σ n nw i2) n i2).toNatClampNeg) (by omega)) (C := RX5) (T := TX5) (N := 5) rfl 1 (by decide) (v := .int ((bk_strikeR σ n nw i2) (120 + (bk_its σ (bk_strikeR σ n nw i2) n i2).toNatClampNeg))) rfl q605 (fun _ h => h) in_X5 dX2_strikeAll_72 ?_
        refine lv_aload_n hx hb dX2_strikeAll_75 rfl (lv_at hl 2 rfl) ?_
        refine xk_getN hAt hK (bcell hP i2 (by omega)) (C := RX4) (T := TX4) (N := 7) rfl 5 (by decide) (v := .int ((bk_strikeR σ n nw i2) (40 + i2))) rfl q544 (fun _ h => h) in_X4 dX2_strikeAll_76 ?_
        refine lv_isub hx hb dX2_strikeAll_79 ?_
        refine lv_iconst (v := 0) hx hb dX2_strikeAll_80 (by decide) ?_
        refine va_mmax hx hb (hml.trans hl.1.symm) hown (hts _ q717) (hts _ q293) (hts _ q52) (hts _ q294) (Nat.le_of_ble_eq_true rfl) (Nat.le_of_ble_eq_true rfl) (Nat.le_refl _) (Nat.le_refl _) dX2_strikeAll_81 ?_
        refine xk_putN hAt hK hS (binv hP ((bk_its σ (bk_strikeR σ n nw i2) n i2).toNatClampNeg) (by omega)) (hJ.2 (110 + (bk_its σ (bk_strikeR σ n nw i2) n i2).toNatClampNeg) (by unfold bk_dom; omega) (by unfold bk_box; omega)) (C := RX5) (T := TX5) (N := 5) rfl 1 (by decide) (v := .int (if (((bk_strikeR σ n nw i2) (120 + (bk_its σ (bk_strikeR σ n nw i2) n i2).toNatClampNeg)) - ((bk_strikeR σ n nw i2) (40 + i2))) < 0 then 0 else (((bk_strikeR σ n nw i2) (120 + (bk_its σ (bk_strikeR σ n nw i2) n i2).toNatClampNeg)) - ((bk_strikeR σ n nw i2) (40 + i2))))) q605 (fun _ h => h) rfl (ty := .int) (by decide +kernel) rfl rfl tyX5 tyX5_ok nmX5 (Nat.le_of_ble_eq_true rfl) in_X5 dX2_strikeAll_84 (fun H locs ho oq hz hS => ?_)
        have hP : bP D ad ρ σ (upd (bk_strikeR σ n nw i2) (120 + (bk_its σ (bk_strikeR σ n nw i2) n i2).toNatClampNeg) (if (((bk_strikeR σ n nw i2) (120 + (bk_its σ (bk_strikeR σ n nw i2) n i2).toNatClampNeg)) - ((bk_strikeR σ n nw i2) (40 + i2))) < 0 then 0 else (((bk_strikeR σ n nw i2) (120 + (bk_its σ (bk_strikeR σ n nw i2) n i2).toNatClampNeg)) - ((bk_strikeR σ n nw i2) (40 + i2))))) n H := bP_vSz hJ hP hn0 ((bk_its σ (bk_strikeR σ n nw i2) n i2).toNatClampNeg) (by omega) ho oq
        have hP : bP D ad ρ σ (bk_str1 (bk_strikeR σ n nw i2) i2 (bk_its σ (bk_strikeR σ n nw i2) n i2).toNatClampNeg) n H := hP
        refine lv_aload hx hb dX2_strikeAll_87 (lv_at hl 0 rfl) ?_
        refine lv_aload hx hb dX2_strikeAll_89 (lv_at hl 0 rfl) ?_
        refine xk_getN hAt hK (binv hP ((bk_its σ (bk_strikeR σ n nw i2) n i2).toNatClampNeg) (by omega)) (C := RX5) (T := TX5) (N := 5) rfl 1 (by decide) (v := .int ((bk_str1 (bk_strikeR σ n nw i2) i2 (bk_its σ (bk_strikeR σ n nw i2) n i2).toNatClampNeg) (120 + (bk_its σ (bk_strikeR σ n nw i2) n i2).toNatClampNeg))) rfl q605 (fun _ h => h) in_X5 dX2_strikeAll_91 ?_
        have J102_7 : ∀ (H : Heap) (locs : List Loc) (ls : Array Slot) (t0 : Int32), t0 = (if (bk_str1 (bk_strikeR σ n nw i2) i2 (bk_its σ (bk_strikeR σ n nw i2) n i2).toNatClampNeg) (120 + (bk_its σ (bk_strikeR σ n nw i2) n i2).toNatClampNeg) = 0 then nI i2 else (-1)) → bP D ad ρ σ (bk_str1 (bk_strikeR σ n nw i2) i2 (bk_its σ (bk_strikeR σ n nw i2) n i2).toNatClampNeg) n H → va_S A s.heap H locs → lv_has ls 5 [(4, .ref (ad (110 + (bk_its σ (bk_strikeR σ n nw i2) n i2).toNatClampNeg))), (3, .int (nI ((bk_its σ (bk_strikeR σ n nw i2) n i2).toNatClampNeg))), (2, .ref (ad (120 + i2))), (1, .int (nI i2)), (0, .ref (ad 100))] → W p l e (xk_R 4 93) s m args below meth c H locs 0 0 Q (F0 m 102 ls [.int t0, .ref (ad (110 + (bk_its σ (bk_strikeR σ n nw i2) n i2).toNatClampNeg))]) := by
          intro H locs ls t0 et0 hP hS hl
          subst et0
          refine xk_putN hAt hK hS (binv hP ((bk_its σ (bk_strikeR σ n nw i2) n i2).toNatClampNeg) (by omega)) (hJ.2 (110 + (bk_its σ (bk_strikeR σ n nw i2) n i2).toNatClampNeg) (by unfold bk_dom; omega) (by unfold bk_box; omega)) (C := RX5) (T := TX5) (N := 5) rfl 3 (by decide) (v := .int (if (bk_str1 (bk_strikeR σ n nw i2) i2 (bk_its σ (bk_strikeR σ n nw i2) n i2).toNatClampNeg) (120 + (bk_its σ (bk_strikeR σ n nw i2) n i2).toNatClampNeg) = 0 then nI i2 else (-1))) q610 (fun _ h => h) rfl (ty := .int) (by decide +kernel) rfl rfl tyX5 tyX5_ok nmX5 (Nat.le_of_ble_eq_true rfl) in_X5 dX2_strikeAll_102 (fun H locs ho oq hz hS => ?_)
          have hP : bP D ad ρ σ (upd (bk_str1 (bk_strikeR σ n nw i2) i2 (bk_its σ (bk_strikeR σ n nw i2) n i2).toNatClampNeg) (128 + (bk_its σ (bk_strikeR σ n nw i2) n i2).toNatClampNeg) (if (bk_str1 (bk_strikeR σ n nw i2) i2 (bk_its σ (bk_strikeR σ n nw i2) n i2).toNatClampNeg) (120 + (bk_its σ (bk_strikeR σ n nw i2) n i2).toNatClampNeg) = 0 then nI i2 else (-1))) n H := bP_vCl hJ hP hn0 ((bk_its σ (bk_strikeR σ n nw i2) n i2).toNatClampNeg) (by omega) ho oq
          exact J105_5 _ _ _ (nI ((bk_its σ (bk_strikeR σ n nw i2) n i2).toNatClampNeg)) (upd (bk_str1 (bk_strikeR σ n nw i2) i2 (bk_its σ (bk_strikeR σ n nw i2) n i2).toNatClampNeg) (128 + (bk_its σ (bk_strikeR σ n nw i2) n i2).toNatClampNeg) (if (bk_str1 (bk_strikeR σ n nw i2) i2 (bk_its σ (bk_strikeR σ n nw i2) n i2).toNatClampNeg) (120 + (bk_its σ (bk_strikeR σ n nw i2) n i2).toNatClampNeg) = 0 then nI i2 else (-1))) ((if_neg c_4).symm) ((if_neg c_4).symm) hP hS (lv_sub hl [1, 2, 3, 4] rfl)
        refine lv_if_ne (tgt := 101) hx hb dX2_strikeAll_94 (by decide) (fun c_6 => ?_) (fun c_6 => ?_)
        · skip
          refine lv_iconst (v := (-1)) hx hb dX2_strikeAll_101 (by decide) ?_
          exact J102_7 _ _ _ (-1) ((if_neg c_6).symm) hP hS (lv_sub hl [0, 1, 2, 3, 4] rfl)
        refine lv_iload_n hx hb dX2_strikeAll_97 rfl (lv_at hl 3 rfl) ?_
        refine lv_goto (tgt := 102) hx hb dX2_strikeAll_98 (by decide) ?_
        exact J102_7 _ _ _ (nI i2) ((if_pos c_6).symm) hP hS (lv_sub hl [0, 1, 2, 3, 4] rfl)
      refine xk_ifeq (tgt := 46) hx hb dX2_strikeAll_35 (by decide) (fun c_2 => ?_) (fun c_2 => ?_)
      · skip
        refine lv_iconst (v := (-1)) hx hb dX2_strikeAll_46 (by decide) ?_
        exact J47_3 _ _ _ (-1) ((if_neg c_2).symm) hP hS (lv_sub hl [0, 1, 2] rfl)
      refine lv_aload_n hx hb dX2_strikeAll_38 rfl (lv_at hl 2 rfl) ?_
      refine lv_aload_n hx hb dX2_strikeAll_39 rfl (lv_at hl 0 rfl) ?_
      refine xk_ciV hAt hK (P := bP D ad ρ σ (bk_strikeR σ n nw i2) n) hP hA hS (xk_recv (q := (RX2, TX2, 7)) hK (b100 hP) rfl) (As := [.ref (ad (120 + i2))]) (rest := []) (b_metByI l D A ad ρ σ (bk_strikeR σ n nw i2) n (by assumption) (by assumption) i2 (by omega)) (cwV 1 hts (lw_V q693 q694 q695 q41 q696) rfl rfl rfl cdX2_metBy ⟨Nat.le_of_ble_eq_true rfl, Nat.le_of_ble_eq_true rfl⟩) rfl hl.1 rfl (Nat.le_of_ble_eq_true rfl) dX2_strikeAll_40 ⟨Nat.le_refl _, Nat.le_refl _⟩ (fun r H locs hq hS => ?_)
      obtain ⟨rfl, hP⟩ := hq
      refine lv_goto (tgt := 47) hx hb dX2_strikeAll_43 (by decide) ?_
      exact J47_3 _ _ _ (mk_met σ (bk_strikeR σ n nw i2) n (σ 6 i2)) ((if_pos c_2).symm) hP hS (lv_sub hl [0, 1, 2] rfl)
  exact L2 (n 3 + 1) 0 (by omega) (by omega)  _ _ _ nw (rfl) hP hS (lv_sub hl [0, 1] rfl)
set_option maxHeartbeats 4000000 in
theorem b_harmAllI (l : Launch) (D : xk_G) (A : Nat → Prop) (ad : Nat → Nat) (ρ : Nat) (σ : Nat → Nat → Int32) (nw : Nat → Int32) (n : Nat → Nat) (hJ : bk_ok A ad n) (hn0 : bk_n n)  : Met l yX2_harmAll (ws_ yX2_harmAll cX2_harmAll 4 (none)) (xk_R 4 91) (xk_Pre D A (bP D ad ρ σ nw n) [.ref (ad 100)]) (xk_Pv A (fun H => bP D ad ρ σ (bk_harmR σ n nw (n 3)) n H)) 0 0 A := by
  refine xk_startV (by decide +kernel) (Nat.le_of_ble_eq_true rfl) ?_
  intro p e s m args below meth c Q hAt hin hK hA hP hR ls hl
  obtain ⟨hx, hb, hml, hown, hts⟩ := id hAt
  have hl : lv_has ls 4 [(0, .ref (ad 100))] := hl
  have hS : va_S A s.heap s.heap [] := va_S.rf
  obtain ⟨h0m, h1m, h2m, h3m, h4m⟩ := id hn0
  refine lv_iconst (v := 0) hx hb dX2_harmAll_0 (by decide) ?_
  refine lv_istore_n (lv' := [(1, .int 0), (0, .ref (ad 100))]) hx hb dX2_harmAll_1 rfl hl (by decide) rfl (fun ls hl => ?_)
  have L2 : ∀ (fu i2 : Nat), n 3 + 1 ≤ i2 + fu → i2 ≤ n 3 → ∀ (H : Heap) (locs : List Loc) (ls : Array Slot) (znw : Nat → Int32), znw = bk_harmR σ n nw i2 → bP D ad ρ σ znw n H → va_S A s.heap H locs → lv_has ls 4 [(1, .int (nI i2)), (0, .ref (ad 100))] → W p l e (xk_R 4 91) s m args below meth c H locs 0 0 Q (F0 m 2 ls []) := by
    intro fu
    induction fu with
    | zero => intro i2 h2a h2b; exact absurd h2a (by omega)
    | succ fu ih2 =>
      intro i2 h2a h2b  H locs ls znw eznw hP hS hl
      subst eznw
      refine lv_iload_n hx hb dX2_harmAll_2 rfl (lv_at hl 0 rfl) ?_
      refine lv_aload_n hx hb dX2_harmAll_3 rfl (lv_at hl 1 rfl) ?_
      refine xk_getO hAt hK (b100 hP) (C := RX2) (T := TX2) (N := 7) rfl 0 (by decide) (v := .ref (ad 101)) rfl (hts _ q109) (fun _ h => h) in_X2 dX2_harmAll_4 ?_
      refine xk_ciF hAt hK (P := bP D ad ρ σ (bk_harmR σ n nw i2) n) hP hA hS (xk_recvL hK (bcl hP)) (As := []) (rest := [.int (nI i2)]) (al_size l D A (bP D ad ρ σ (bk_harmR σ n nw i2) n) (ad 101) (ad 104) (n 3) (fun j => ad (120 + j)) (fun _ h => bcl h)) (va_cwF 0 hts (xk_lwF q671 q240 q242 q40 q244) rfl rfl rfl hK.2.2.1 (by decide +kernel) ⟨Nat.le_of_ble_eq_true rfl, Nat.le_of_ble_eq_true rfl⟩) rfl hl.1 rfl (Nat.le_of_ble_eq_true rfl) dX2_harmAll_7 ⟨Nat.le_refl _, Nat.le_refl _⟩ (fun r H locs hq hS => ?_)
      obtain ⟨rfl, hP⟩ := hq
      refine mk_ge (tgt := 83) (a := i2) (b := n 3) hx hb (by omega) (by omega) dX2_harmAll_12 (by decide) (fun c_1 => ?_) (fun c_1 => ?_)
      · skip
        obtain rfl : i2 = n 3 := by omega
        exact hR _ _ _ _ dX2_harmAll_83 (hP) hS
      refine lv_aload_n hx hb dX2_harmAll_15 rfl (lv_at hl 1 rfl) ?_
      refine xk_getO hAt hK (b100 hP) (C := RX2) (T := TX2) (N := 7) rfl 0 (by decide) (v := .ref (ad 101)) rfl (hts _ q109) (fun _ h => h) in_X2 dX2_harmAll_16 ?_
      refine lv_iload_n hx hb dX2_harmAll_19 rfl (lv_at hl 0 rfl) ?_
      refine xk_crF hAt hK (P := bP D ad ρ σ (bk_harmR σ n nw i2) n) hP hA hS (xk_recvL hK (bcl hP)) (As := [.int (nI i2)]) (rest := []) (al_get l D A (bP D ad ρ σ (bk_harmR σ n nw i2) n) (ad 101) (ad 104) (n 3) (fun j => ad (120 + j)) (fun _ h => bcl h) i2 (by omega) (by omega)) (va_cwF 1 hts (xk_lwF q673 q253 q255 q40 q257) rfl rfl rfl hK.2.2.2.1 (by decide +kernel) ⟨Nat.le_of_ble_eq_true rfl, Nat.le_of_ble_eq_true rfl⟩) rfl hl.1 rfl (Nat.le_of_ble_eq_true rfl) dX2_harmAll_20 ⟨Nat.le_refl _, Nat.le_refl _⟩ (fun r H locs hq hS => ?_)
      have hq : r = ad (120 + i2) ∧ bP D ad ρ σ (bk_harmR σ n nw i2) n H := hq
      obtain ⟨rfl, hP⟩ := hq
      refine xk_cast hAt hK (bcell hP i2 (by omega)) rfl rfl (hts _ q688) dX2_harmAll_25 ?_
      refine lv_astore_n (lv' := [(2, .ref (ad (120 + i2))), (1, .int (nI i2)), (0, .ref (ad 100))]) hx hb dX2_harmAll_28 rfl hl (by decide) rfl (fun ls hl => ?_)
      refine lv_aload_n hx hb dX2_harmAll_29 rfl (lv_at hl 0 rfl) ?_
      refine lv_iconst (v := 0) hx hb dX2_harmAll_30 (by decide) ?_
      refine lv_iconst (v := 3) hx hb dX2_harmAll_31 (by decide) ?_
      refine xk_ciV hAt hK (P := bP D ad ρ σ (bk_harmR σ n nw i2) n) hP hA hS (xk_recv (q := (RX4, TX4, 7)) hK (bcell hP i2 (by omega)) rfl) (As := [.int 0, .int 3]) (rest := []) (b_isC l D A ad ρ σ (bk_harmR σ n nw i2) n (by assumption) i2 (by omega) 0 3) (cwV 2 hts (lw_V q707 q656 q657 q60 q658) rfl rfl rfl cdX4_is ⟨Nat.le_of_ble_eq_true rfl, Nat.le_of_ble_eq_true rfl⟩) rfl hl.1 rfl (Nat.le_of_ble_eq_true rfl) dX2_harmAll_32 ⟨Nat.le_refl _, Nat.le_refl _⟩ (fun r H locs hq hS => ?_)
      obtain ⟨rfl, hP⟩ := hq
      have J50_3 : ∀ (H : Heap) (locs : List Loc) (ls : Array Slot) (t0 : Int32), t0 = (if bk_is σ (bk_harmR σ n nw i2) i2 0 3 then mk_otR σ (σ 6 i2) (n 0) else (-1)) → bP D ad ρ σ (bk_harmR σ n nw i2) n H → va_S A s.heap H locs → lv_has ls 4 [(2, .ref (ad (120 + i2))), (1, .int (nI i2)), (0, .ref (ad 100))] → W p l e (xk_R 4 91) s m args below meth c H locs 0 0 Q (F0 m 50 ls [.int t0]) := by
        intro H locs ls t0 et0 hP hS hl
        subst et0
        refine lv_istore_n (lv' := [(3, .int (if bk_is σ (bk_harmR σ n nw i2) i2 0 3 then mk_otR σ (σ 6 i2) (n 0) else (-1))), (2, .ref (ad (120 + i2))), (1, .int (nI i2)), (0, .ref (ad 100))]) hx hb dX2_harmAll_50 rfl hl (by decide) rfl (fun ls hl => ?_)
        have hl : lv_has ls 4 [(3, .int (bk_oit σ (bk_harmR σ n nw i2) n i2)), (2, .ref (ad (120 + i2))), (1, .int (nI i2)), (0, .ref (ad 100))] := hl
        refine lv_iload_n hx hb dX2_harmAll_51 rfl (lv_at hl 0 rfl) ?_
        refine lv_iconst (v := (-1)) hx hb dX2_harmAll_52 (by decide) ?_
        have J77_5 : ∀ (H : Heap) (locs : List Loc) (ls : Array Slot) (v3 : Int32) (znw : Nat → Int32), v3 = (if bk_oit σ (bk_harmR σ n nw i2) n i2 = (-1) then bk_oit σ (bk_harmR σ n nw i2) n i2 else nI ((bk_oit σ (bk_harmR σ n nw i2) n i2).toNatClampNeg)) → znw = (if bk_oit σ (bk_harmR σ n nw i2) n i2 = (-1) then bk_harmR σ n nw i2 else (if bk_clmR σ (bk_harmR σ n nw i2) (σ 2 ((bk_oit σ (bk_harmR σ n nw i2) n i2).toNatClampNeg)) (n 3) = 0 then upd (bk_harmR σ n nw i2) (144 + (bk_oit σ (bk_harmR σ n nw i2) n i2).toNatClampNeg) (((bk_harmR σ n nw i2) (144 + (bk_oit σ (bk_harmR σ n nw i2) n i2).toNatClampNeg)) + ((bk_harmR σ n nw i2) (40 + i2))) else bk_harmR σ n nw i2)) → bP D ad ρ σ znw n H → va_S A s.heap H locs → lv_has ls 4 [(3, .int v3), (2, .ref (ad (120 + i2))), (1, .int (nI i2)), (0, .ref (ad 100))] → W p l e (xk_R 4 91) s m args below meth c H locs 0 0 Q (F0 m 77 ls []) := by
          intro H locs ls v3 znw ev3 eznw hP hS hl
          subst ev3
          subst eznw
          refine lv_iinc (v := nI (i2 + 1)) (lv' := [(1, .int (nI (i2 + 1))), (3, .int (if bk_oit σ (bk_harmR σ n nw i2) n i2 = (-1) then bk_oit σ (bk_harmR σ n nw i2) n i2 else nI ((bk_oit σ (bk_harmR σ n nw i2) n i2).toNatClampNeg))), (2, .ref (ad (120 + i2))), (0, .ref (ad 100))]) hx hb dX2_harmAll_77 hl (k := 2) rfl (xk_inc i2) (by decide) rfl (fun ls hl => ?_)
          refine lv_goto (tgt := 2) hx hb dX2_harmAll_80 (by decide) ?_
          exact ih2 (i2 + 1) (by omega) (by omega)  _ _ _ (if bk_oit σ (bk_harmR σ n nw i2) n i2 = (-1) then bk_harmR σ n nw i2 else (if bk_clmR σ (bk_harmR σ n nw i2) (σ 2 ((bk_oit σ (bk_harmR σ n nw i2) n i2).toNatClampNeg)) (n 3) = 0 then upd (bk_harmR σ n nw i2) (144 + (bk_oit σ (bk_harmR σ n nw i2) n i2).toNatClampNeg) (((bk_harmR σ n nw i2) (144 + (bk_oit σ (bk_harmR σ n nw i2) n i2).toNatClampNeg)) + ((bk_harmR σ n nw i2) (40 + i2))) else bk_harmR σ n nw i2)) (rfl) hP hS (lv_sub hl [0, 3] rfl)
        refine lv_icmp_eq (tgt := 77) hx hb dX2_harmAll_53 (by decide) (fun c_4 => ?_) (fun c_4 => ?_)
        · skip
          exact J77_5 _ _ _ (bk_oit σ (bk_harmR σ n nw i2) n i2) (bk_harmR σ n nw i2) ((if_pos c_4).symm) ((if_pos c_4).symm) hP hS (lv_sub hl [0, 1, 2, 3] rfl)
        have hix := mk_ix_of (by omega) (bk_oit_ix σ (bk_harmR σ n nw i2) n i2) c_4
        have hix2 := hix.2.1
        have hl : lv_has ls 4 [(3, .int (nI ((bk_oit σ (bk_harmR σ n nw i2) n i2).toNatClampNeg))), (2, .ref (ad (120 + i2))), (1, .int (nI i2)), (0, .ref (ad 100))] := by rw [← hix.1]; exact hl
        refine lv_aload_n hx hb dX2_harmAll_56 rfl (lv_at hl 3 rfl) ?_
        refine lv_iload_n hx hb dX2_harmAll_57 rfl (lv_at hl 0 rfl) ?_
        refine xk_ciV hAt hK (P := bP D ad ρ σ (bk_harmR σ n nw i2) n) hP hA hS (xk_recv (q := (RX2, TX2, 7)) hK (b100 hP) rfl) (As := [.int (nI ((bk_oit σ (bk_harmR σ n nw i2) n i2).toNatClampNeg))]) (rest := []) (b_isCalmedI l D A ad ρ σ (bk_harmR σ n nw i2) n (by assumption) (by assumption) ((bk_oit σ (bk_harmR σ n nw i2) n i2).toNatClampNeg) (by omega)) (cwV 1 hts (lw_V q740 q742 qs13 q41 q743) rfl rfl rfl cdX2_isCalmed ⟨Nat.le_of_ble_eq_true rfl, Nat.le_of_ble_eq_true rfl⟩) rfl hl.1 rfl (Nat.le_of_ble_eq_true rfl) dX2_harmAll_58 ⟨Nat.le_refl _, Nat.le_refl _⟩ (fun r H locs hq hS => ?_)
        obtain ⟨rfl, hP⟩ := hq
        refine lv_if_ne (tgt := 77) hx hb dX2_harmAll_61 (by decide) (fun c_6 => ?_) (fun c_6 => ?_)
        · skip
          exact J77_5 _ _ _ (nI ((bk_oit σ (bk_harmR σ n nw i2) n i2).toNatClampNeg)) (bk_harmR σ n nw i2) ((if_neg c_4).symm) (((if_neg c_6).symm).trans (if_neg c_4).symm) hP hS (lv_sub hl [0, 1, 2, 3] rfl)
        refine lv_aload_n hx hb dX2_harmAll_64 rfl (lv_at hl 3 rfl) ?_
        refine xk_getO hAt hK (b100 hP) (C := RX2) (T := TX2) (N := 7) rfl 2 (by decide) (v := .ref (ad 103)) rfl (hts _ q113) (fun _ h => h) in_X2 dX2_harmAll_65 ?_
        refine lv_iload_n hx hb dX2_harmAll_68 rfl (lv_at hl 0 rfl) ?_
        refine lv_dup2_11 hx hb dX2_harmAll_69 rfl rfl ?_
        refine xk_ialdO hAt hK (bhm hP) ((bk_oit σ (bk_harmR σ n nw i2) n i2).toNatClampNeg) (by omega) (by decide) dX2_harmAll_70 ?_
        refine xk_to (y := (bk_harmR σ n nw i2) (144 + (bk_oit σ (bk_harmR σ n nw i2) n i2).toNatClampNeg)) rfl ?_
        refine lv_aload_n hx hb dX2_harmAll_71 rfl (lv_at hl 1 rfl) ?_
        refine xk_getN hAt hK (bcell hP i2 (by omega)) (C := RX4) (T := TX4) (N := 7) rfl 5 (by decide) (v := .int ((bk_harmR σ n nw i2) (40 + i2))) rfl q544 (fun _ h => h) in_X4 dX2_harmAll_72 ?_
        refine lv_iadd hx hb dX2_harmAll_75 ?_
        refine xk_iastO hAt hK hS (bhm hP) (hJ.2 103 (by unfold bk_dom; omega) (by unfold bk_box; omega)) ((bk_oit σ (bk_harmR σ n nw i2) n i2).toNatClampNeg) (by omega) (by decide) dX2_harmAll_76 (fun H locs ho oq hz hS => ?_)
        have hP : bP D ad ρ σ (upd (bk_harmR σ n nw i2) (144 + (bk_oit σ (bk_harmR σ n nw i2) n i2).toNatClampNeg) (((bk_harmR σ n nw i2) (144 + (bk_oit σ (bk_harmR σ n nw i2) n i2).toNatClampNeg)) + ((bk_harmR σ n nw i2) (40 + i2)))) n H := bP_harm hJ hP hn0 ((bk_oit σ (bk_harmR σ n nw i2) n i2).toNatClampNeg) (by omega) ho oq
        exact J77_5 _ _ _ (nI ((bk_oit σ (bk_harmR σ n nw i2) n i2).toNatClampNeg)) (upd (bk_harmR σ n nw i2) (144 + (bk_oit σ (bk_harmR σ n nw i2) n i2).toNatClampNeg) (((bk_harmR σ n nw i2) (144 + (bk_oit σ (bk_harmR σ n nw i2) n i2).toNatClampNeg)) + ((bk_harmR σ n nw i2) (40 + i2)))) ((if_neg c_4).symm) (((if_pos c_6).symm).trans (if_neg c_4).symm) hP hS (lv_sub hl [0, 1, 2, 3] rfl)
      refine xk_ifeq (tgt := 49) hx hb dX2_harmAll_35 (by decide) (fun c_2 => ?_) (fun c_2 => ?_)
      · skip
        refine lv_iconst (v := (-1)) hx hb dX2_harmAll_49 (by decide) ?_
        exact J50_3 _ _ _ (-1) ((if_neg c_2).symm) hP hS (lv_sub hl [0, 1, 2] rfl)
      refine lv_aload_n hx hb dX2_harmAll_38 rfl (lv_at hl 2 rfl) ?_
      refine lv_aload_n hx hb dX2_harmAll_39 rfl (lv_at hl 0 rfl) ?_
      refine xk_getN hAt hK (bcell hP i2 (by omega)) (C := RX4) (T := TX4) (N := 7) rfl 1 (by decide) (v := .int (σ 6 i2)) rfl q533 (fun _ h => h) in_X4 dX2_harmAll_40 ?_
      refine xk_ciV hAt hK (P := bP D ad ρ σ (bk_harmR σ n nw i2) n) hP hA hS (xk_recv (q := (RX2, TX2, 7)) hK (b100 hP) rfl) (As := [.int (σ 6 i2)]) (rest := []) (b_ownTouchedI l D A ad ρ σ (bk_harmR σ n nw i2) n (by assumption) (σ 6 i2)) (cwV 1 hts (lw_V q734 q736 qs12 q41 q737) rfl rfl rfl cdX2_ownTouched ⟨Nat.le_of_ble_eq_true rfl, Nat.le_of_ble_eq_true rfl⟩) rfl hl.1 rfl (Nat.le_of_ble_eq_true rfl) dX2_harmAll_43 ⟨Nat.le_refl _, Nat.le_refl _⟩ (fun r H locs hq hS => ?_)
      obtain ⟨rfl, hP⟩ := hq
      refine lv_goto (tgt := 50) hx hb dX2_harmAll_46 (by decide) ?_
      exact J50_3 _ _ _ (mk_otR σ (σ 6 i2) (n 0)) ((if_pos c_2).symm) hP hS (lv_sub hl [0, 1, 2] rfl)
  exact L2 (n 3 + 1) 0 (by omega) (by omega)  _ _ _ nw (rfl) hP hS (lv_sub hl [0, 1] rfl)
set_option maxHeartbeats 4000000 in
theorem b_growV (l : Launch) (D : xk_G) (A : Nat → Prop) (ad : Nat → Nat) (ρ : Nat) (σ : Nat → Nat → Int32) (nw : Nat → Int32) (n : Nat → Nat) (hJ : bk_ok A ad n) (hn0 : bk_n n) (k : Nat) (hk : k < n 4) : Met l yX5_grow (ws_ yX5_grow cX5_grow 1 (none)) (xk_R 1 21) (xk_Pre D A (bP D ad ρ σ nw n) [.ref (ad (110 + k))]) (xk_Pv A (fun H => bP D ad ρ σ (bk_gr2 nw (σ 10 k) k) n H)) 0 0 A := by
  refine xk_startV (by decide +kernel) (Nat.le_of_ble_eq_true rfl) ?_
  intro p e s m args below meth c Q hAt hin hK hA hP hR ls hl
  obtain ⟨hx, hb, hml, hown, hts⟩ := id hAt
  have hl : lv_has ls 1 [(0, .ref (ad (110 + k)))] := hl
  have hS : va_S A s.heap s.heap [] := va_S.rf
  obtain ⟨h0m, h1m, h2m, h3m, h4m⟩ := id hn0
  refine lv_aload_n hx hb dX5_grow_0 rfl (lv_at hl 0 rfl) ?_
  refine xk_getO hAt hK (binv hP k (by omega)) (C := RX5) (T := TX5) (N := 5) rfl 1 (by decide) (v := .int (nw (120 + k))) rfl (hts _ q604) (fun _ h => h) in_X5 dX5_grow_1 ?_
  have J43_2 : ∀ (H : Heap) (locs : List Loc) (ls : Array Slot) (znw : Nat → Int32), znw = (if nw (120 + k) ≤ 0 then nw else (if σ 10 k ≤ 0 then nw else upd nw (120 + k) (if 9999 < (((nw (120 + k)) + (((nw (120 + k)) * (σ 10 k)) / 10)) + 1) then 9999 else (((nw (120 + k)) + (((nw (120 + k)) * (σ 10 k)) / 10)) + 1)))) → bP D ad ρ σ znw n H → va_S A s.heap H locs → lv_has ls 1 [(0, .ref (ad (110 + k)))] → W p l e (xk_R 1 21) s m args below meth c H locs 0 0 Q (F0 m 43 ls []) := by
    intro H locs ls znw eznw hP hS hl
    subst eznw
    have hP : bP D ad ρ σ (bk_gr1 nw (σ 10 k) k) n H := hP
    refine lv_aload_n hx hb dX5_grow_43 rfl (lv_at hl 0 rfl) ?_
    refine lv_aload_n hx hb dX5_grow_44 rfl (lv_at hl 0 rfl) ?_
    refine xk_getO hAt hK (binv hP k (by omega)) (C := RX5) (T := TX5) (N := 5) rfl 2 (by decide) (v := .int (σ 10 k)) rfl (hts _ q607) (fun _ h => h) in_X5 dX5_grow_45 ?_
    have J64_4 : ∀ (H : Heap) (locs : List Loc) (ls : Array Slot) (t0 : Int32), t0 = (if 0 ≤ σ 10 k then (bk_gr1 nw (σ 10 k) k) (120 + k) else (((bk_gr1 nw (σ 10 k) k) (120 + k)) / 2)) → bP D ad ρ σ (bk_gr1 nw (σ 10 k) k) n H → va_S A s.heap H locs → lv_has ls 1 [(0, .ref (ad (110 + k)))] → W p l e (xk_R 1 21) s m args below meth c H locs 0 0 Q (F0 m 64 ls [.int t0, .ref (ad (110 + k))]) := by
      intro H locs ls t0 et0 hP hS hl
      subst et0
      refine xk_putO hAt hK hS (binv hP k (by omega)) (hJ.2 (110 + k) (by unfold bk_dom; omega) (by unfold bk_box; omega)) (C := RX5) (T := TX5) (N := 5) rfl 1 (by decide) (v := .int (if 0 ≤ σ 10 k then (bk_gr1 nw (σ 10 k) k) (120 + k) else (((bk_gr1 nw (σ 10 k) k) (120 + k)) / 2))) (hts _ q604) (fun _ h => h) rfl (ty := .int) (by decide +kernel) rfl rfl tyX5 tyX5_ok nmX5 (Nat.le_of_ble_eq_true rfl) in_X5 dX5_grow_64 (fun H locs ho oq hz hS => ?_)
      have hP : bP D ad ρ σ (upd (bk_gr1 nw (σ 10 k) k) (120 + k) (if 0 ≤ σ 10 k then (bk_gr1 nw (σ 10 k) k) (120 + k) else (((bk_gr1 nw (σ 10 k) k) (120 + k)) / 2))) n H := bP_vSz hJ hP hn0 k (by omega) ho oq
      exact hR _ _ _ _ dX5_grow_67 (hP) hS
    refine lv_if_ge (tgt := 60) hx hb dX5_grow_48 (by decide) (fun c_3 => ?_) (fun c_3 => ?_)
    · skip
      refine lv_aload_n hx hb dX5_grow_60 rfl (lv_at hl 0 rfl) ?_
      refine xk_getO hAt hK (binv hP k (by omega)) (C := RX5) (T := TX5) (N := 5) rfl 1 (by decide) (v := .int ((bk_gr1 nw (σ 10 k) k) (120 + k))) rfl (hts _ q604) (fun _ h => h) in_X5 dX5_grow_61 ?_
      exact J64_4 _ _ _ ((bk_gr1 nw (σ 10 k) k) (120 + k)) ((if_pos c_3).symm) hP hS (lv_sub hl [0] rfl)
    refine lv_aload_n hx hb dX5_grow_51 rfl (lv_at hl 0 rfl) ?_
    refine xk_getO hAt hK (binv hP k (by omega)) (C := RX5) (T := TX5) (N := 5) rfl 1 (by decide) (v := .int ((bk_gr1 nw (σ 10 k) k) (120 + k))) rfl (hts _ q604) (fun _ h => h) in_X5 dX5_grow_52 ?_
    refine lv_iconst (v := 2) hx hb dX5_grow_55 (by decide) ?_
    refine lv_idiv hx hb dX5_grow_56 (by decide) ?_
    refine lv_goto (tgt := 64) hx hb dX5_grow_57 (by decide) ?_
    exact J64_4 _ _ _ (((bk_gr1 nw (σ 10 k) k) (120 + k)) / 2) ((if_neg c_3).symm) hP hS (lv_sub hl [0] rfl)
  refine lv_if_le (tgt := 43) hx hb dX5_grow_4 (by decide) (fun c_1 => ?_) (fun c_1 => ?_)
  · skip
    exact J43_2 _ _ _ nw ((if_pos c_1).symm) hP hS (lv_sub hl [0] rfl)
  refine lv_aload_n hx hb dX5_grow_7 rfl (lv_at hl 0 rfl) ?_
  refine xk_getO hAt hK (binv hP k (by omega)) (C := RX5) (T := TX5) (N := 5) rfl 2 (by decide) (v := .int (σ 10 k)) rfl (hts _ q607) (fun _ h => h) in_X5 dX5_grow_8 ?_
  refine lv_if_le (tgt := 43) hx hb dX5_grow_11 (by decide) (fun c_5 => ?_) (fun c_5 => ?_)
  · skip
    exact J43_2 _ _ _ nw (((if_pos c_5).symm).trans (if_neg c_1).symm) hP hS (lv_sub hl [0] rfl)
  refine lv_aload_n hx hb dX5_grow_14 rfl (lv_at hl 0 rfl) ?_
  refine lv_aload_n hx hb dX5_grow_15 rfl (lv_at hl 0 rfl) ?_
  refine xk_getO hAt hK (binv hP k (by omega)) (C := RX5) (T := TX5) (N := 5) rfl 1 (by decide) (v := .int (nw (120 + k))) rfl (hts _ q604) (fun _ h => h) in_X5 dX5_grow_16 ?_
  refine lv_aload_n hx hb dX5_grow_19 rfl (lv_at hl 0 rfl) ?_
  refine xk_getO hAt hK (binv hP k (by omega)) (C := RX5) (T := TX5) (N := 5) rfl 1 (by decide) (v := .int (nw (120 + k))) rfl (hts _ q604) (fun _ h => h) in_X5 dX5_grow_20 ?_
  refine lv_aload_n hx hb dX5_grow_23 rfl (lv_at hl 0 rfl) ?_
  refine xk_getO hAt hK (binv hP k (by omega)) (C := RX5) (T := TX5) (N := 5) rfl 2 (by decide) (v := .int (σ 10 k)) rfl (hts _ q607) (fun _ h => h) in_X5 dX5_grow_24 ?_
  refine lv_imul hx hb dX5_grow_27 ?_
  refine lv_bipush (v := 10) hx hb dX5_grow_28 (by decide) ?_
  refine lv_idiv hx hb dX5_grow_30 (by decide) ?_
  refine lv_iadd hx hb dX5_grow_31 ?_
  refine lv_iconst (v := 1) hx hb dX5_grow_32 (by decide) ?_
  refine lv_iadd hx hb dX5_grow_33 ?_
  refine lv_sipush (v := 9999) hx hb dX5_grow_34 (by decide) ?_
  refine va_mmin hx hb (hml.trans hl.1.symm) hown (hts _ q679) (hts _ q432) (hts _ q52) (hts _ q433) (Nat.le_of_ble_eq_true rfl) (Nat.le_of_ble_eq_true rfl) (Nat.le_refl _) (Nat.le_refl _) dX5_grow_37 ?_
  refine xk_putO hAt hK hS (binv hP k (by omega)) (hJ.2 (110 + k) (by unfold bk_dom; omega) (by unfold bk_box; omega)) (C := RX5) (T := TX5) (N := 5) rfl 1 (by decide) (v := .int (if 9999 < (((nw (120 + k)) + (((nw (120 + k)) * (σ 10 k)) / 10)) + 1) then 9999 else (((nw (120 + k)) + (((nw (120 + k)) * (σ 10 k)) / 10)) + 1))) (hts _ q604) (fun _ h => h) rfl (ty := .int) (by decide +kernel) rfl rfl tyX5 tyX5_ok nmX5 (Nat.le_of_ble_eq_true rfl) in_X5 dX5_grow_40 (fun H locs ho oq hz hS => ?_)
  have hP : bP D ad ρ σ (upd nw (120 + k) (if 9999 < (((nw (120 + k)) + (((nw (120 + k)) * (σ 10 k)) / 10)) + 1) then 9999 else (((nw (120 + k)) + (((nw (120 + k)) * (σ 10 k)) / 10)) + 1))) n H := bP_vSz hJ hP hn0 k (by omega) ho oq
  exact J43_2 _ _ _ (upd nw (120 + k) (if 9999 < (((nw (120 + k)) + (((nw (120 + k)) * (σ 10 k)) / 10)) + 1) then 9999 else (((nw (120 + k)) + (((nw (120 + k)) * (σ 10 k)) / 10)) + 1))) (((if_neg c_5).symm).trans (if_neg c_1).symm) hP hS (lv_sub hl [0] rfl)
set_option maxHeartbeats 4000000 in
theorem b_passHourI (l : Launch) (D : xk_G) (A : Nat → Prop) (ad : Nat → Nat) (ρ : Nat) (σ : Nat → Nat → Int32) (nw : Nat → Int32) (n : Nat → Nat) (hJ : bk_ok A ad n) (hn0 : bk_n n)  : Met l yX2_passHour (ws_ yX2_passHour cX2_passHour 3 (none)) (xk_R 7 160) (xk_Pre D A (bP D ad ρ σ nw n) [.ref (ad 100)]) (xk_Pv A (fun H => bP D ad ρ σ (bk_hour σ n nw) n H)) 0 0 A := by
  refine xk_startV (by decide +kernel) (Nat.le_of_ble_eq_true rfl) ?_
  intro p e s m args below meth c Q hAt hin hK hA hP hR ls hl
  obtain ⟨hx, hb, hml, hown, hts⟩ := id hAt
  have hl : lv_has ls 3 [(0, .ref (ad 100))] := hl
  have hS : va_S A s.heap s.heap [] := va_S.rf
  obtain ⟨h0m, h1m, h2m, h3m, h4m⟩ := id hn0
  refine lv_iconst (v := 0) hx hb dX2_passHour_0 (by decide) ?_
  refine lv_istore_n (lv' := [(1, .int 0), (0, .ref (ad 100))]) hx hb dX2_passHour_1 rfl hl (by decide) rfl (fun ls hl => ?_)
  have L2 : ∀ (fu i2 : Nat), n 4 + 1 ≤ i2 + fu → i2 ≤ n 4 → ∀ (H : Heap) (locs : List Loc) (ls : Array Slot) (znw : Nat → Int32), znw = bk_growR σ nw i2 → bP D ad ρ σ znw n H → va_S A s.heap H locs → lv_has ls 3 [(1, .int (nI i2)), (0, .ref (ad 100))] → W p l e (xk_R 7 160) s m args below meth c H locs 0 0 Q (F0 m 2 ls []) := by
    intro fu
    induction fu with
    | zero => intro i2 h2a h2b; exact absurd h2a (by omega)
    | succ fu ih2 =>
      intro i2 h2a h2b  H locs ls znw eznw hP hS hl
      subst eznw
      refine lv_iload_n hx hb dX2_passHour_2 rfl (lv_at hl 0 rfl) ?_
      refine lv_aload_n hx hb dX2_passHour_3 rfl (lv_at hl 1 rfl) ?_
      refine xk_getO hAt hK (b100 hP) (C := RX2) (T := TX2) (N := 7) rfl 1 (by decide) (v := .ref (ad 102)) rfl (hts _ q111) (fun _ h => h) in_X2 dX2_passHour_4 ?_
      refine xk_ciF hAt hK (P := bP D ad ρ σ (bk_growR σ nw i2) n) hP hA hS (xk_recvL hK (bvl hP)) (As := []) (rest := [.int (nI i2)]) (al_size l D A (bP D ad ρ σ (bk_growR σ nw i2) n) (ad 102) (ad 105) (n 4) (fun j => ad (110 + j)) (fun _ h => bvl h)) (va_cwF 0 hts (xk_lwF q671 q240 q242 q40 q244) rfl rfl rfl hK.2.2.1 (by decide +kernel) ⟨Nat.le_of_ble_eq_true rfl, Nat.le_of_ble_eq_true rfl⟩) rfl hl.1 rfl (Nat.le_of_ble_eq_true rfl) dX2_passHour_7 ⟨Nat.le_refl _, Nat.le_refl _⟩ (fun r H locs hq hS => ?_)
      obtain ⟨rfl, hP⟩ := hq
      refine mk_ge (tgt := 37) (a := i2) (b := n 4) hx hb (by omega) (by omega) dX2_passHour_12 (by decide) (fun c_1 => ?_) (fun c_1 => ?_)
      · skip
        obtain rfl : i2 = n 4 := by omega
        have hP : bP D ad ρ σ (bk_h1 σ n nw) n H := hP
        refine lv_aload_n hx hb dX2_passHour_37 rfl (lv_at hl 1 rfl) ?_
        refine xk_cvV hAt hK (P := bP D ad ρ σ (bk_h1 σ n nw) n) hP hA hS (xk_recv (q := (RX2, TX2, 7)) hK (b100 hP) rfl) (As := []) (rest := []) (b_activateI l D A ad ρ σ (bk_h1 σ n nw) n hJ hn0 ) (cwV 0 hts (lw_V q680 q681 q682 q41 q683) rfl rfl rfl cdX2_activate ⟨Nat.le_of_ble_eq_true rfl, Nat.le_of_ble_eq_true rfl⟩) rfl hl.1 rfl (Nat.le_of_ble_eq_true rfl) dX2_passHour_38 ⟨Nat.le_refl _, Nat.le_refl _⟩ (fun H locs hP hS => ?_)
        have hP : bP D ad ρ σ (bk_h2 σ n nw) n H := hP
        refine lv_aload_n hx hb dX2_passHour_41 rfl (lv_at hl 1 rfl) ?_
        refine xk_cvV hAt hK (P := bP D ad ρ σ (bk_h2 σ n nw) n) hP hA hS (xk_recv (q := (RX2, TX2, 7)) hK (b100 hP) rfl) (As := []) (rest := []) (b_workAllI l D A ad ρ σ (bk_h2 σ n nw) n hJ hn0 ) (cwV 0 hts (lw_V q699 q700 q701 q41 q702) rfl rfl rfl cdX2_workAll ⟨Nat.le_of_ble_eq_true rfl, Nat.le_of_ble_eq_true rfl⟩) rfl hl.1 rfl (Nat.le_of_ble_eq_true rfl) dX2_passHour_42 ⟨Nat.le_refl _, Nat.le_refl _⟩ (fun H locs hP hS => ?_)
        have hP : bP D ad ρ σ (bk_h3 σ n nw) n H := hP
        refine lv_aload_n hx hb dX2_passHour_45 rfl (lv_at hl 1 rfl) ?_
        refine xk_cvV hAt hK (P := bP D ad ρ σ (bk_h3 σ n nw) n) hP hA hS (xk_recv (q := (RX2, TX2, 7)) hK (b100 hP) rfl) (As := []) (rest := []) (b_strikeAllI l D A ad ρ σ (bk_h3 σ n nw) n hJ hn0 ) (cwV 0 hts (lw_V q726 q727 q728 q41 q729) rfl rfl rfl cdX2_strikeAll ⟨Nat.le_of_ble_eq_true rfl, Nat.le_of_ble_eq_true rfl⟩) rfl hl.1 rfl (Nat.le_of_ble_eq_true rfl) dX2_passHour_46 ⟨Nat.le_refl _, Nat.le_refl _⟩ (fun H locs hP hS => ?_)
        have hP : bP D ad ρ σ (bk_h4 σ n nw) n H := hP
        refine lv_aload_n hx hb dX2_passHour_49 rfl (lv_at hl 1 rfl) ?_
        refine xk_cvV hAt hK (P := bP D ad ρ σ (bk_h4 σ n nw) n) hP hA hS (xk_recv (q := (RX2, TX2, 7)) hK (b100 hP) rfl) (As := []) (rest := []) (b_harmAllI l D A ad ρ σ (bk_h4 σ n nw) n hJ hn0 ) (cwV 0 hts (lw_V q730 q731 q732 q41 q733) rfl rfl rfl cdX2_harmAll ⟨Nat.le_of_ble_eq_true rfl, Nat.le_of_ble_eq_true rfl⟩) rfl hl.1 rfl (Nat.le_of_ble_eq_true rfl) dX2_passHour_50 ⟨Nat.le_refl _, Nat.le_refl _⟩ (fun H locs hP hS => ?_)
        have hP : bP D ad ρ σ (bk_h5 σ n nw) n H := hP
        refine lv_iconst (v := 0) hx hb dX2_passHour_53 (by decide) ?_
        refine lv_istore_n (lv' := [(1, .int 0), (0, .ref (ad 100))]) hx hb dX2_passHour_54 rfl hl (by decide) rfl (fun ls hl => ?_)
        have L55 : ∀ (fu i55 : Nat), n 3 + 1 ≤ i55 + fu → i55 ≤ n 3 → ∀ (H : Heap) (locs : List Loc) (ls : Array Slot) (znw : Nat → Int32), znw = bk_tirR σ n (bk_h5 σ n nw) i55 → bP D ad ρ σ znw n H → va_S A s.heap H locs → lv_has ls 3 [(1, .int (nI i55)), (0, .ref (ad 100))] → W p l e (xk_R 7 160) s m args below meth c H locs 0 0 Q (F0 m 55 ls []) := by
          intro fu
          induction fu with
          | zero => intro i55 h55a h55b; exact absurd h55a (by omega)
          | succ fu ih55 =>
            intro i55 h55a h55b  H locs ls znw eznw hP hS hl
            subst eznw
            refine lv_iload_n hx hb dX2_passHour_55 rfl (lv_at hl 0 rfl) ?_
            refine lv_aload_n hx hb dX2_passHour_56 rfl (lv_at hl 1 rfl) ?_
            refine xk_getO hAt hK (b100 hP) (C := RX2) (T := TX2) (N := 7) rfl 0 (by decide) (v := .ref (ad 101)) rfl (hts _ q109) (fun _ h => h) in_X2 dX2_passHour_57 ?_
            refine xk_ciF hAt hK (P := bP D ad ρ σ (bk_tirR σ n (bk_h5 σ n nw) i55) n) hP hA hS (xk_recvL hK (bcl hP)) (As := []) (rest := [.int (nI i55)]) (al_size l D A (bP D ad ρ σ (bk_tirR σ n (bk_h5 σ n nw) i55) n) (ad 101) (ad 104) (n 3) (fun j => ad (120 + j)) (fun _ h => bcl h)) (va_cwF 0 hts (xk_lwF q671 q240 q242 q40 q244) rfl rfl rfl hK.2.2.1 (by decide +kernel) ⟨Nat.le_of_ble_eq_true rfl, Nat.le_of_ble_eq_true rfl⟩) rfl hl.1 rfl (Nat.le_of_ble_eq_true rfl) dX2_passHour_60 ⟨Nat.le_refl _, Nat.le_refl _⟩ (fun r H locs hq hS => ?_)
            obtain ⟨rfl, hP⟩ := hq
            refine mk_ge (tgt := 109) (a := i55) (b := n 3) hx hb (by omega) (by omega) dX2_passHour_65 (by decide) (fun c_2 => ?_) (fun c_2 => ?_)
            · skip
              obtain rfl : i55 = n 3 := by omega
              have hP : bP D ad ρ σ (bk_h6 σ n nw) n H := hP
              refine lv_iconst (v := 0) hx hb dX2_passHour_109 (by decide) ?_
              refine lv_istore_n (lv' := [(1, .int 0), (0, .ref (ad 100))]) hx hb dX2_passHour_110 rfl hl (by decide) rfl (fun ls hl => ?_)
              have L111 : ∀ (fu i111 : Nat), n 4 + 1 ≤ i111 + fu → i111 ≤ n 4 → ∀ (H : Heap) (locs : List Loc) (ls : Array Slot) (znw : Nat → Int32), znw = mk_grtR (bk_h6 σ n nw) i111 → bP D ad ρ σ znw n H → va_S A s.heap H locs → lv_has ls 3 [(1, .int (nI i111)), (0, .ref (ad 100))] → W p l e (xk_R 7 160) s m args below meth c H locs 0 0 Q (F0 m 111 ls []) := by
                intro fu
                induction fu with
                | zero => intro i111 h111a h111b; exact absurd h111a (by omega)
                | succ fu ih111 =>
                  intro i111 h111a h111b  H locs ls znw eznw hP hS hl
                  subst eznw
                  refine lv_iload_n hx hb dX2_passHour_111 rfl (lv_at hl 0 rfl) ?_
                  refine lv_aload_n hx hb dX2_passHour_112 rfl (lv_at hl 1 rfl) ?_
                  refine xk_getO hAt hK (b100 hP) (C := RX2) (T := TX2) (N := 7) rfl 1 (by decide) (v := .ref (ad 102)) rfl (hts _ q111) (fun _ h => h) in_X2 dX2_passHour_113 ?_
                  refine xk_ciF hAt hK (P := bP D ad ρ σ (mk_grtR (bk_h6 σ n nw) i111) n) hP hA hS (xk_recvL hK (bvl hP)) (As := []) (rest := [.int (nI i111)]) (al_size l D A (bP D ad ρ σ (mk_grtR (bk_h6 σ n nw) i111) n) (ad 102) (ad 105) (n 4) (fun j => ad (110 + j)) (fun _ h => bvl h)) (va_cwF 0 hts (xk_lwF q671 q240 q242 q40 q244) rfl rfl rfl hK.2.2.1 (by decide +kernel) ⟨Nat.le_of_ble_eq_true rfl, Nat.le_of_ble_eq_true rfl⟩) rfl hl.1 rfl (Nat.le_of_ble_eq_true rfl) dX2_passHour_116 ⟨Nat.le_refl _, Nat.le_refl _⟩ (fun r H locs hq hS => ?_)
                  obtain ⟨rfl, hP⟩ := hq
                  refine mk_ge (tgt := 159) (a := i111) (b := n 4) hx hb (by omega) (by omega) dX2_passHour_121 (by decide) (fun c_3 => ?_) (fun c_3 => ?_)
                  · skip
                    obtain rfl : i111 = n 4 := by omega
                    have hP : bP D ad ρ σ (bk_h7 σ n nw) n H := hP
                    refine lv_aload_n hx hb dX2_passHour_159 rfl (lv_at hl 1 rfl) ?_
                    refine lv_dup hx hb dX2_passHour_160 rfl ?_
                    refine xk_getO hAt hK (b100 hP) (C := RX2) (T := TX2) (N := 7) rfl 5 (by decide) (v := .int ((bk_h7 σ n nw) 154)) rfl (hts _ q117) (fun _ h => h) in_X2 dX2_passHour_161 ?_
                    refine lv_iconst (v := 1) hx hb dX2_passHour_164 (by decide) ?_
                    refine lv_iadd hx hb dX2_passHour_165 ?_
                    refine xk_putO hAt hK hS (b100 hP) (hJ.2 100 (by unfold bk_dom; omega) (by unfold bk_box; omega)) (C := RX2) (T := TX2) (N := 7) rfl 5 (by decide) (v := .int (((bk_h7 σ n nw) 154) + 1)) (hts _ q117) (fun _ h => h) rfl (ty := .int) (by decide +kernel) rfl rfl tyX2 tyX2_ok nmX2 (Nat.le_of_ble_eq_true rfl) in_X2 dX2_passHour_166 (fun H locs ho oq hz hS => ?_)
                    have hP : bP D ad ρ σ (upd (bk_h7 σ n nw) 154 (((bk_h7 σ n nw) 154) + 1)) n H := bP_hour hJ hP hn0 ho oq
                    exact hR _ _ _ _ dX2_passHour_169 (hP) hS
                  refine lv_aload_n hx hb dX2_passHour_124 rfl (lv_at hl 1 rfl) ?_
                  refine xk_getO hAt hK (b100 hP) (C := RX2) (T := TX2) (N := 7) rfl 1 (by decide) (v := .ref (ad 102)) rfl (hts _ q111) (fun _ h => h) in_X2 dX2_passHour_125 ?_
                  refine lv_iload_n hx hb dX2_passHour_128 rfl (lv_at hl 0 rfl) ?_
                  refine xk_crF hAt hK (P := bP D ad ρ σ (mk_grtR (bk_h6 σ n nw) i111) n) hP hA hS (xk_recvL hK (bvl hP)) (As := [.int (nI i111)]) (rest := []) (al_get l D A (bP D ad ρ σ (mk_grtR (bk_h6 σ n nw) i111) n) (ad 102) (ad 105) (n 4) (fun j => ad (110 + j)) (fun _ h => bvl h) i111 (by omega) (by omega)) (va_cwF 1 hts (xk_lwF q673 q253 q255 q40 q257) rfl rfl rfl hK.2.2.2.1 (by decide +kernel) ⟨Nat.le_of_ble_eq_true rfl, Nat.le_of_ble_eq_true rfl⟩) rfl hl.1 rfl (Nat.le_of_ble_eq_true rfl) dX2_passHour_129 ⟨Nat.le_refl _, Nat.le_refl _⟩ (fun r H locs hq hS => ?_)
                  have hq : r = ad (110 + i111) ∧ bP D ad ρ σ (mk_grtR (bk_h6 σ n nw) i111) n H := hq
                  obtain ⟨rfl, hP⟩ := hq
                  refine xk_cast hAt hK (binv hP i111 (by omega)) rfl rfl (hts _ q674) dX2_passHour_134 ?_
                  refine lv_astore_n (lv' := [(2, .ref (ad (110 + i111))), (1, .int (nI i111)), (0, .ref (ad 100))]) hx hb dX2_passHour_137 rfl hl (by decide) rfl (fun ls hl => ?_)
                  refine lv_aload_n hx hb dX2_passHour_138 rfl (lv_at hl 0 rfl) ?_
                  refine lv_aload_n hx hb dX2_passHour_139 rfl (lv_at hl 0 rfl) ?_
                  refine xk_getN hAt hK (binv hP i111 (by omega)) (C := RX5) (T := TX5) (N := 5) rfl 1 (by decide) (v := .int ((mk_grtR (bk_h6 σ n nw) i111) (120 + i111))) rfl q605 (fun _ h => h) in_X5 dX2_passHour_140 ?_
                  refine lv_aload_n hx hb dX2_passHour_143 rfl (lv_at hl 0 rfl) ?_
                  refine xk_getN hAt hK (binv hP i111 (by omega)) (C := RX5) (T := TX5) (N := 5) rfl 4 (by decide) (v := .int ((mk_grtR (bk_h6 σ n nw) i111) (136 + i111))) rfl q613 (fun _ h => h) in_X5 dX2_passHour_144 ?_
                  refine va_mmax hx hb (hml.trans hl.1.symm) hown (hts _ q717) (hts _ q293) (hts _ q52) (hts _ q294) (Nat.le_of_ble_eq_true rfl) (Nat.le_of_ble_eq_true rfl) (Nat.le_refl _) (Nat.le_refl _) dX2_passHour_147 ?_
                  refine xk_putN hAt hK hS (binv hP i111 (by omega)) (hJ.2 (110 + i111) (by unfold bk_dom; omega) (by unfold bk_box; omega)) (C := RX5) (T := TX5) (N := 5) rfl 4 (by decide) (v := .int (if (mk_grtR (bk_h6 σ n nw) i111) (120 + i111) < (mk_grtR (bk_h6 σ n nw) i111) (136 + i111) then (mk_grtR (bk_h6 σ n nw) i111) (136 + i111) else (mk_grtR (bk_h6 σ n nw) i111) (120 + i111))) q613 (fun _ h => h) rfl (ty := .int) (by decide +kernel) rfl rfl tyX5 tyX5_ok nmX5 (Nat.le_of_ble_eq_true rfl) in_X5 dX2_passHour_150 (fun H locs ho oq hz hS => ?_)
                  have hP : bP D ad ρ σ (upd (mk_grtR (bk_h6 σ n nw) i111) (136 + i111) (if (mk_grtR (bk_h6 σ n nw) i111) (120 + i111) < (mk_grtR (bk_h6 σ n nw) i111) (136 + i111) then (mk_grtR (bk_h6 σ n nw) i111) (136 + i111) else (mk_grtR (bk_h6 σ n nw) i111) (120 + i111))) n H := bP_vGr hJ hP hn0 i111 (by omega) ho oq
                  refine lv_iinc (v := nI (i111 + 1)) (lv' := [(1, .int (nI (i111 + 1))), (2, .ref (ad (110 + i111))), (0, .ref (ad 100))]) hx hb dX2_passHour_153 hl (k := 1) rfl (xk_inc i111) (by decide) rfl (fun ls hl => ?_)
                  refine lv_goto (tgt := 111) hx hb dX2_passHour_156 (by decide) ?_
                  exact ih111 (i111 + 1) (by omega) (by omega)  _ _ _ (upd (mk_grtR (bk_h6 σ n nw) i111) (136 + i111) (if (mk_grtR (bk_h6 σ n nw) i111) (120 + i111) < (mk_grtR (bk_h6 σ n nw) i111) (136 + i111) then (mk_grtR (bk_h6 σ n nw) i111) (136 + i111) else (mk_grtR (bk_h6 σ n nw) i111) (120 + i111))) (congrArg (upd _ _) (xk_mx _ _)) hP hS (lv_sub hl [0, 2] rfl)
              exact L111 (n 4 + 1) 0 (by omega) (by omega)  _ _ _ (bk_h6 σ n nw) (rfl) hP hS (lv_sub hl [0, 1] rfl)
            refine lv_aload_n hx hb dX2_passHour_68 rfl (lv_at hl 1 rfl) ?_
            refine xk_getO hAt hK (b100 hP) (C := RX2) (T := TX2) (N := 7) rfl 0 (by decide) (v := .ref (ad 101)) rfl (hts _ q109) (fun _ h => h) in_X2 dX2_passHour_69 ?_
            refine lv_iload_n hx hb dX2_passHour_72 rfl (lv_at hl 0 rfl) ?_
            refine xk_crF hAt hK (P := bP D ad ρ σ (bk_tirR σ n (bk_h5 σ n nw) i55) n) hP hA hS (xk_recvL hK (bcl hP)) (As := [.int (nI i55)]) (rest := []) (al_get l D A (bP D ad ρ σ (bk_tirR σ n (bk_h5 σ n nw) i55) n) (ad 101) (ad 104) (n 3) (fun j => ad (120 + j)) (fun _ h => bcl h) i55 (by omega) (by omega)) (va_cwF 1 hts (xk_lwF q673 q253 q255 q40 q257) rfl rfl rfl hK.2.2.2.1 (by decide +kernel) ⟨Nat.le_of_ble_eq_true rfl, Nat.le_of_ble_eq_true rfl⟩) rfl hl.1 rfl (Nat.le_of_ble_eq_true rfl) dX2_passHour_73 ⟨Nat.le_refl _, Nat.le_refl _⟩ (fun r H locs hq hS => ?_)
            have hq : r = ad (120 + i55) ∧ bP D ad ρ σ (bk_tirR σ n (bk_h5 σ n nw) i55) n H := hq
            obtain ⟨rfl, hP⟩ := hq
            refine xk_cast hAt hK (bcell hP i55 (by omega)) rfl rfl (hts _ q688) dX2_passHour_78 ?_
            refine lv_astore_n (lv' := [(2, .ref (ad (120 + i55))), (1, .int (nI i55)), (0, .ref (ad 100))]) hx hb dX2_passHour_81 rfl hl (by decide) rfl (fun ls hl => ?_)
            refine lv_aload_n hx hb dX2_passHour_82 rfl (lv_at hl 0 rfl) ?_
            refine xk_getN hAt hK (bcell hP i55 (by omega)) (C := RX4) (T := TX4) (N := 7) rfl 4 (by decide) (v := .int ((bk_tirR σ n (bk_h5 σ n nw) i55) i55)) rfl q541 (fun _ h => h) in_X4 dX2_passHour_83 ?_
            refine lv_iconst (v := 4) hx hb dX2_passHour_86 (by decide) ?_
            have J103_5 : ∀ (H : Heap) (locs : List Loc) (ls : Array Slot) (znw : Nat → Int32), znw = (if (bk_tirR σ n (bk_h5 σ n nw) i55) i55 = 4 then (if mk_mts σ (bk_tirR σ n (bk_h5 σ n nw) i55) n (σ 6 i55) then bk_tirR σ n (bk_h5 σ n nw) i55 else bk_rem (bk_tirR σ n (bk_h5 σ n nw) i55) i55) else bk_tirR σ n (bk_h5 σ n nw) i55) → bP D ad ρ σ znw n H → va_S A s.heap H locs → lv_has ls 3 [(2, .ref (ad (120 + i55))), (1, .int (nI i55)), (0, .ref (ad 100))] → W p l e (xk_R 7 160) s m args below meth c H locs 0 0 Q (F0 m 103 ls []) := by
              intro H locs ls znw eznw hP hS hl
              subst eznw
              refine lv_iinc (v := nI (i55 + 1)) (lv' := [(1, .int (nI (i55 + 1))), (2, .ref (ad (120 + i55))), (0, .ref (ad 100))]) hx hb dX2_passHour_103 hl (k := 1) rfl (xk_inc i55) (by decide) rfl (fun ls hl => ?_)
              refine lv_goto (tgt := 55) hx hb dX2_passHour_106 (by decide) ?_
              exact ih55 (i55 + 1) (by omega) (by omega)  _ _ _ (if (bk_tirR σ n (bk_h5 σ n nw) i55) i55 = 4 then (if mk_mts σ (bk_tirR σ n (bk_h5 σ n nw) i55) n (σ 6 i55) then bk_tirR σ n (bk_h5 σ n nw) i55 else bk_rem (bk_tirR σ n (bk_h5 σ n nw) i55) i55) else bk_tirR σ n (bk_h5 σ n nw) i55) (rfl) hP hS (lv_sub hl [0, 2] rfl)
            refine lv_icmp_ne (tgt := 103) hx hb dX2_passHour_87 (by decide) (fun c_4 => ?_) (fun c_4 => ?_)
            · skip
              exact J103_5 _ _ _ (bk_tirR σ n (bk_h5 σ n nw) i55) ((if_neg c_4).symm) hP hS (lv_sub hl [0, 1, 2] rfl)
            refine lv_aload_n hx hb dX2_passHour_90 rfl (lv_at hl 2 rfl) ?_
            refine lv_aload_n hx hb dX2_passHour_91 rfl (lv_at hl 0 rfl) ?_
            refine xk_ciV hAt hK (P := bP D ad ρ σ (bk_tirR σ n (bk_h5 σ n nw) i55) n) hP hA hS (xk_recv (q := (RX2, TX2, 7)) hK (b100 hP) rfl) (As := [.ref (ad (120 + i55))]) (rest := []) (b_meetsI l D A ad ρ σ (bk_tirR σ n (bk_h5 σ n nw) i55) n (by assumption) (by assumption) i55 (by omega)) (cwV 1 hts (lw_V q689 q690 q691 q41 q692) rfl rfl rfl cdX2_meets ⟨Nat.le_of_ble_eq_true rfl, Nat.le_of_ble_eq_true rfl⟩) rfl hl.1 rfl (Nat.le_of_ble_eq_true rfl) dX2_passHour_92 ⟨Nat.le_refl _, Nat.le_refl _⟩ (fun r H locs hq hS => ?_)
            obtain ⟨rfl, hP⟩ := hq
            refine xk_ifne (tgt := 103) hx hb dX2_passHour_95 (by decide) (fun c_6 => ?_) (fun c_6 => ?_)
            · skip
              exact J103_5 _ _ _ (bk_tirR σ n (bk_h5 σ n nw) i55) (((if_pos c_6).symm).trans (if_pos c_4).symm) hP hS (lv_sub hl [0, 1, 2] rfl)
            refine lv_aload_n hx hb dX2_passHour_98 rfl (lv_at hl 2 rfl) ?_
            refine lv_aload_n hx hb dX2_passHour_99 rfl (lv_at hl 0 rfl) ?_
            refine xk_cvV hAt hK (P := bP D ad ρ σ (bk_tirR σ n (bk_h5 σ n nw) i55) n) hP hA hS (xk_recv (q := (RX2, TX2, 7)) hK (b100 hP) rfl) (As := [.ref (ad (120 + i55))]) (rest := []) (b_rememberI l D A ad ρ σ (bk_tirR σ n (bk_h5 σ n nw) i55) n hJ hn0 i55 (by omega)) (cwV 1 hts (lw_V q722 q723 q724 q41 q725) rfl rfl rfl cdX2_remember ⟨Nat.le_of_ble_eq_true rfl, Nat.le_of_ble_eq_true rfl⟩) rfl hl.1 rfl (Nat.le_of_ble_eq_true rfl) dX2_passHour_100 ⟨Nat.le_refl _, Nat.le_refl _⟩ (fun H locs hP hS => ?_)
            exact J103_5 _ _ _ (bk_rem (bk_tirR σ n (bk_h5 σ n nw) i55) i55) (((if_neg c_6).symm).trans (if_pos c_4).symm) hP hS (lv_sub hl [0, 1, 2] rfl)
        exact L55 (n 3 + 1) 0 (by omega) (by omega)  _ _ _ (bk_h5 σ n nw) (rfl) hP hS (lv_sub hl [0, 1] rfl)
      refine lv_aload_n hx hb dX2_passHour_15 rfl (lv_at hl 1 rfl) ?_
      refine xk_getO hAt hK (b100 hP) (C := RX2) (T := TX2) (N := 7) rfl 1 (by decide) (v := .ref (ad 102)) rfl (hts _ q111) (fun _ h => h) in_X2 dX2_passHour_16 ?_
      refine lv_iload_n hx hb dX2_passHour_19 rfl (lv_at hl 0 rfl) ?_
      refine xk_crF hAt hK (P := bP D ad ρ σ (bk_growR σ nw i2) n) hP hA hS (xk_recvL hK (bvl hP)) (As := [.int (nI i2)]) (rest := []) (al_get l D A (bP D ad ρ σ (bk_growR σ nw i2) n) (ad 102) (ad 105) (n 4) (fun j => ad (110 + j)) (fun _ h => bvl h) i2 (by omega) (by omega)) (va_cwF 1 hts (xk_lwF q673 q253 q255 q40 q257) rfl rfl rfl hK.2.2.2.1 (by decide +kernel) ⟨Nat.le_of_ble_eq_true rfl, Nat.le_of_ble_eq_true rfl⟩) rfl hl.1 rfl (Nat.le_of_ble_eq_true rfl) dX2_passHour_20 ⟨Nat.le_refl _, Nat.le_refl _⟩ (fun r H locs hq hS => ?_)
      have hq : r = ad (110 + i2) ∧ bP D ad ρ σ (bk_growR σ nw i2) n H := hq
      obtain ⟨rfl, hP⟩ := hq
      refine xk_cast hAt hK (binv hP i2 (by omega)) rfl rfl (hts _ q674) dX2_passHour_25 ?_
      refine xk_cvV hAt hK (P := bP D ad ρ σ (bk_growR σ nw i2) n) hP hA hS (xk_recv (q := (RX5, TX5, 5)) hK (binv hP i2 (by omega)) rfl) (As := []) (rest := []) (b_growV l D A ad ρ σ (bk_growR σ nw i2) n hJ hn0 i2 (by omega)) (cwV 0 hts (lw_V q675 q676 q677 q61 q678) rfl rfl rfl cdX5_grow ⟨Nat.le_of_ble_eq_true rfl, Nat.le_of_ble_eq_true rfl⟩) rfl hl.1 rfl (Nat.le_of_ble_eq_true rfl) dX2_passHour_28 ⟨Nat.le_refl _, Nat.le_refl _⟩ (fun H locs hP hS => ?_)
      refine lv_iinc (v := nI (i2 + 1)) (lv' := [(1, .int (nI (i2 + 1))), (0, .ref (ad 100))]) hx hb dX2_passHour_31 hl (k := 0) rfl (xk_inc i2) (by decide) rfl (fun ls hl => ?_)
      refine lv_goto (tgt := 2) hx hb dX2_passHour_34 (by decide) ?_
      exact ih2 (i2 + 1) (by omega) (by omega)  _ _ _ (bk_gr2 (bk_growR σ nw i2) (σ 10 i2) i2) (rfl) hP hS (lv_sub hl [0, 1] rfl)
  exact L2 (n 4 + 1) 0 (by omega) (by omega)  _ _ _ nw (rfl) hP hS (lv_sub hl [0, 1] rfl)
