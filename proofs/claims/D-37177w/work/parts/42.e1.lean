/-! CONSTRUCTORS, walked (printed by gen/model.py) -/
set_option maxRecDepth 100000
theorem e_numInit (l : Launch) (D : xk_G) (A : Nat → Prop) (P : Heap → Prop) (o : Nat) : Met l yJ8_init (ws_ yJ8_init cJ8_init 1 (none)) (xk_R 1 14) (xk_Pre D A P [.ref o]) (xk_Pv A (fun H => P H)) 0 0 A := by
  refine xk_startV (by decide +kernel) (Nat.le_of_ble_eq_true rfl) ?_
  intro p e s m args below meth c Q hAt hin hK hA hP hR ls hl
  obtain ⟨hx, hb, hml, hown, hts⟩ := id hAt
  have hl : lv_has ls 1 [(0, .ref o)] := hl
  have hS : va_S A s.heap s.heap [] := va_S.rf
  refine lv_aload_n hx hb dJ8_init_0 rfl (lv_at hl 0 rfl) ?_
  refine W.objInit hx hb hown (hts _ q373) (hts _ q68) (hts _ q69) rfl (by rw [hml]; exact hl.1) rfl dJ8_init_1 (Nat.le_of_ble_eq_true rfl) (Nat.le_of_ble_eq_true rfl) ?_
  refine W.eq (g2 := F0 m 4 ls []) rfl ?_
  exact hR _ _ _ _ dJ8_init_4 hP hS
theorem e_colInit (l : Launch) (D : xk_G) (A : Nat → Prop) (P : Heap → Prop) (o : Nat) : Met l yJ0_init (ws_ yJ0_init cJ0_init 1 (none)) (xk_R 1 14) (xk_Pre D A P [.ref o]) (xk_Pv A (fun H => P H)) 0 0 A := by
  refine xk_startV (by decide +kernel) (Nat.le_of_ble_eq_true rfl) ?_
  intro p e s m args below meth c Q hAt hin hK hA hP hR ls hl
  obtain ⟨hx, hb, hml, hown, hts⟩ := id hAt
  have hl : lv_has ls 1 [(0, .ref o)] := hl
  have hS : va_S A s.heap s.heap [] := va_S.rf
  refine lv_aload_n hx hb dJ0_init_0 rfl (lv_at hl 0 rfl) ?_
  refine W.objInit hx hb hown (hts _ q85) (hts _ q68) (hts _ q69) rfl (by rw [hml]; exact hl.1) rfl dJ0_init_1 (Nat.le_of_ble_eq_true rfl) (Nat.le_of_ble_eq_true rfl) ?_
  refine W.eq (g2 := F0 m 4 ls []) rfl ?_
  exact hR _ _ _ _ dJ0_init_4 hP hS
set_option maxHeartbeats 4000000 in
theorem e_intInit (l : Launch) (D : xk_G) (A : Nat → Prop) (o : Nat) (ho : A o) (z : Int32) : Met l yJ9_init (ws_ yJ9_init cJ9_init 2 (none)) (xk_R 2 40) (xk_Pre D A (bO D o 6 [.int 0]) [.ref o, .int z]) (xk_Pv A (fun H => bO D o 6 [.int z] H)) 0 0 A := by
  refine xk_startV (by decide +kernel) (Nat.le_of_ble_eq_true rfl) ?_
  intro p e s m args below meth c Q hAt hin hK hA hP hR ls hl
  obtain ⟨hx, hb, hml, hown, hts⟩ := id hAt
  have hl : lv_has ls 2 [(0, .ref o), (1, .int z)] := hl
  have hS : va_S A s.heap s.heap [] := va_S.rf
  have hP : va_P D.1 xk_CL [(o, .inr (6, [.int 0]))] s.heap := bP1 hP
  have hD : va_D A [(o, .inr (6, [.int 0]))] := xe_D1 ho
  refine lv_aload_n hx hb dJ9_init_0 rfl (lv_at hl 0 rfl) ?_
  refine xe_cv (A1 := A) (va_runI (As := []) (rest := []) ⟨hx, hb, hml, hown, hts⟩ (e_numInit l D A (fun H => va_P D.1 xk_CL [(o, .inr (6, [.int 0]))] H) o) (cwI 0 hts (lw_meth q372) rfl rfl rfl (hts _ q48) (hts _ q370) (hts _ q371) rfl (by decide +kernel) ⟨Nat.le_of_ble_eq_true rfl, Nat.le_of_ble_eq_true rfl⟩) (xk_preS hK hP (fun q h => hA q (Nat.le_trans hS.1 h))) rfl rfl hl.1 rfl (lv_room (Nat.le_of_ble_eq_true rfl)) dJ9_init_1 ⟨Nat.le_refl _, Nat.le_refl _⟩) hS (fun _ h => h) (fun H locs hP _ _ hS => ?_)
  refine lv_aload_n hx hb dJ9_init_4 rfl (lv_at hl 0 rfl) ?_
  refine lv_iload_n hx hb dJ9_init_5 rfl (lv_at hl 1 rfl) ?_
  refine va_putF (D := D.1) (ci := 6) (v := .int z) (ty := .int) (C := RJ9) (T := TJ9) (N := 1) hx hb hts in_J9 tyJ9 tyJ9_ok nmJ9 hown hK.1 hP hD hS 0 rfl rfl 0 (by decide) (hts _ q374) (fun _ h9 => h9) rfl hin rfl (by decide +kernel) rfl rfl (Nat.le_of_ble_eq_true rfl) dJ9_init_6 (fun H locs hP hD hS => ?_)
  have hP : va_P D.1 xk_CL [(o, .inr (6, [.int z]))] H := hP
  have hD : va_D A [(o, .inr (6, [.int z]))] := hD
  exact hR _ _ _ _ dJ9_init_9 (hP 0 _ rfl) hS
set_option maxHeartbeats 4000000 in
theorem e_cellInit (l : Launch) (D : xk_G) (A : Nat → Prop) (o : Nat) (ho : A o) (a b1 c1 d1 s1 z1 w1 : Int32) : Met l yX4_init (ws_ yX4_init cX4_init 8 (none)) (xk_R 1 40) (xk_Pre D A (bO D o 3 [.int 0, .int 0, .int 0, .int 0, .int 0, .int 0, .int 0]) [.ref o, .int a, .int b1, .int c1, .int d1, .int s1, .int z1, .int w1]) (xk_Pv A (fun H => bO D o 3 [.int a, .int b1, .int c1, .int d1, .int s1, .int z1, .int w1] H)) 0 0 A := by
  refine xk_startV (by decide +kernel) (Nat.le_of_ble_eq_true rfl) ?_
  intro p e s m args below meth c Q hAt hin hK hA hP hR ls hl
  obtain ⟨hx, hb, hml, hown, hts⟩ := id hAt
  have hl : lv_has ls 8 [(0, .ref o), (1, .int a), (2, .int b1), (3, .int c1), (4, .int d1), (5, .int s1), (6, .int z1), (7, .int w1)] := hl
  have hS : va_S A s.heap s.heap [] := va_S.rf
  have hP : va_P D.1 xk_CL [(o, .inr (3, [.int 0, .int 0, .int 0, .int 0, .int 0, .int 0, .int 0]))] s.heap := bP1 hP
  have hD : va_D A [(o, .inr (3, [.int 0, .int 0, .int 0, .int 0, .int 0, .int 0, .int 0]))] := xe_D1 ho
  refine lv_aload_n hx hb dX4_init_0 rfl (lv_at hl 0 rfl) ?_
  refine W.objInit hx hb hown (hts _ q530) (hts _ q68) (hts _ q69) rfl (by rw [hml]; exact hl.1) rfl dX4_init_1 (Nat.le_of_ble_eq_true rfl) (Nat.le_of_ble_eq_true rfl) ?_
  refine W.eq (g2 := F0 m 4 ls []) rfl ?_
  refine lv_aload_n hx hb dX4_init_4 rfl (lv_at hl 0 rfl) ?_
  refine lv_iload_n hx hb dX4_init_5 rfl (lv_at hl 1 rfl) ?_
  refine va_putF (D := D.1) (ci := 3) (v := .int a) (ty := .int) (C := RX4) (T := TX4) (N := 7) hx hb hts in_X4 tyX4 tyX4_ok nmX4 hown hK.1 hP hD hS 0 rfl rfl 0 (by decide) (hts _ q531) (fun _ h9 => h9) rfl hin rfl (by decide +kernel) rfl rfl (Nat.le_of_ble_eq_true rfl) dX4_init_6 (fun H locs hP hD hS => ?_)
  have hP : va_P D.1 xk_CL [(o, .inr (3, [.int a, .int 0, .int 0, .int 0, .int 0, .int 0, .int 0]))] H := hP
  have hD : va_D A [(o, .inr (3, [.int a, .int 0, .int 0, .int 0, .int 0, .int 0, .int 0]))] := hD
  refine lv_aload_n hx hb dX4_init_9 rfl (lv_at hl 0 rfl) ?_
  refine lv_iload_n hx hb dX4_init_10 rfl (lv_at hl 2 rfl) ?_
  refine va_putF (D := D.1) (ci := 3) (v := .int b1) (ty := .int) (C := RX4) (T := TX4) (N := 7) hx hb hts in_X4 tyX4 tyX4_ok nmX4 hown hK.1 hP hD hS 0 rfl rfl 1 (by decide) (hts _ q532) (fun _ h9 => h9) rfl hin rfl (by decide +kernel) rfl rfl (Nat.le_of_ble_eq_true rfl) dX4_init_11 (fun H locs hP hD hS => ?_)
  have hP : va_P D.1 xk_CL [(o, .inr (3, [.int a, .int b1, .int 0, .int 0, .int 0, .int 0, .int 0]))] H := hP
  have hD : va_D A [(o, .inr (3, [.int a, .int b1, .int 0, .int 0, .int 0, .int 0, .int 0]))] := hD
  refine lv_aload_n hx hb dX4_init_14 rfl (lv_at hl 0 rfl) ?_
  refine lv_iload_n hx hb dX4_init_15 rfl (lv_at hl 3 rfl) ?_
  refine va_putF (D := D.1) (ci := 3) (v := .int c1) (ty := .int) (C := RX4) (T := TX4) (N := 7) hx hb hts in_X4 tyX4 tyX4_ok nmX4 hown hK.1 hP hD hS 0 rfl rfl 2 (by decide) (hts _ q535) (fun _ h9 => h9) rfl hin rfl (by decide +kernel) rfl rfl (Nat.le_of_ble_eq_true rfl) dX4_init_16 (fun H locs hP hD hS => ?_)
  have hP : va_P D.1 xk_CL [(o, .inr (3, [.int a, .int b1, .int c1, .int 0, .int 0, .int 0, .int 0]))] H := hP
  have hD : va_D A [(o, .inr (3, [.int a, .int b1, .int c1, .int 0, .int 0, .int 0, .int 0]))] := hD
  refine lv_aload_n hx hb dX4_init_19 rfl (lv_at hl 0 rfl) ?_
  refine lv_iload hx hb dX4_init_20 (lv_at hl 4 rfl) ?_
  refine va_putF (D := D.1) (ci := 3) (v := .int d1) (ty := .int) (C := RX4) (T := TX4) (N := 7) hx hb hts in_X4 tyX4 tyX4_ok nmX4 hown hK.1 hP hD hS 0 rfl rfl 3 (by decide) (hts _ q538) (fun _ h9 => h9) rfl hin rfl (by decide +kernel) rfl rfl (Nat.le_of_ble_eq_true rfl) dX4_init_22 (fun H locs hP hD hS => ?_)
  have hP : va_P D.1 xk_CL [(o, .inr (3, [.int a, .int b1, .int c1, .int d1, .int 0, .int 0, .int 0]))] H := hP
  have hD : va_D A [(o, .inr (3, [.int a, .int b1, .int c1, .int d1, .int 0, .int 0, .int 0]))] := hD
  refine lv_aload_n hx hb dX4_init_25 rfl (lv_at hl 0 rfl) ?_
  refine lv_iload hx hb dX4_init_26 (lv_at hl 5 rfl) ?_
  refine va_put (D := D.1) (ci := 3) (v := .int s1) (ty := .int) (C := RX4) (T := TX4) (N := 7) hx hb hts in_X4 tyX4 tyX4_ok nmX4 hown hK.1 hP hD hS 0 rfl rfl 4 (by decide) (hts _ q540) (fun _ h9 => h9) rfl (by decide +kernel) rfl rfl (Nat.le_of_ble_eq_true rfl) dX4_init_28 (fun H locs hP hD hS => ?_)
  have hP : va_P D.1 xk_CL [(o, .inr (3, [.int a, .int b1, .int c1, .int d1, .int s1, .int 0, .int 0]))] H := hP
  have hD : va_D A [(o, .inr (3, [.int a, .int b1, .int c1, .int d1, .int s1, .int 0, .int 0]))] := hD
  refine lv_aload_n hx hb dX4_init_31 rfl (lv_at hl 0 rfl) ?_
  refine lv_iload hx hb dX4_init_32 (lv_at hl 6 rfl) ?_
  refine va_put (D := D.1) (ci := 3) (v := .int z1) (ty := .int) (C := RX4) (T := TX4) (N := 7) hx hb hts in_X4 tyX4 tyX4_ok nmX4 hown hK.1 hP hD hS 0 rfl rfl 5 (by decide) (hts _ q543) (fun _ h9 => h9) rfl (by decide +kernel) rfl rfl (Nat.le_of_ble_eq_true rfl) dX4_init_34 (fun H locs hP hD hS => ?_)
  have hP : va_P D.1 xk_CL [(o, .inr (3, [.int a, .int b1, .int c1, .int d1, .int s1, .int z1, .int 0]))] H := hP
  have hD : va_D A [(o, .inr (3, [.int a, .int b1, .int c1, .int d1, .int s1, .int z1, .int 0]))] := hD
  refine lv_aload_n hx hb dX4_init_37 rfl (lv_at hl 0 rfl) ?_
  refine lv_iload hx hb dX4_init_38 (lv_at hl 7 rfl) ?_
  refine va_put (D := D.1) (ci := 3) (v := .int w1) (ty := .int) (C := RX4) (T := TX4) (N := 7) hx hb hts in_X4 tyX4 tyX4_ok nmX4 hown hK.1 hP hD hS 0 rfl rfl 6 (by decide) (hts _ q546) (fun _ h9 => h9) rfl (by decide +kernel) rfl rfl (Nat.le_of_ble_eq_true rfl) dX4_init_40 (fun H locs hP hD hS => ?_)
  have hP : va_P D.1 xk_CL [(o, .inr (3, [.int a, .int b1, .int c1, .int d1, .int s1, .int z1, .int w1]))] H := hP
  have hD : va_D A [(o, .inr (3, [.int a, .int b1, .int c1, .int d1, .int s1, .int z1, .int w1]))] := hD
  exact hR _ _ _ _ dX4_init_43 (hP 0 _ rfl) hS
set_option maxHeartbeats 4000000 in
theorem e_invInit (l : Launch) (D : xk_G) (A : Nat → Prop) (o : Nat) (ho : A o) (a b1 c1 : Int32) : Met l yX5_init (ws_ yX5_init cX5_init 4 (none)) (xk_R 1 40) (xk_Pre D A (bO D o 4 [.int 0, .int 0, .int 0, .int 0, .int 0]) [.ref o, .int a, .int b1, .int c1]) (xk_Pv A (fun H => bO D o 4 [.int a, .int b1, .int c1, .int (-1), .int b1] H)) 0 0 A := by
  refine xk_startV (by decide +kernel) (Nat.le_of_ble_eq_true rfl) ?_
  intro p e s m args below meth c Q hAt hin hK hA hP hR ls hl
  obtain ⟨hx, hb, hml, hown, hts⟩ := id hAt
  have hl : lv_has ls 4 [(0, .ref o), (1, .int a), (2, .int b1), (3, .int c1)] := hl
  have hS : va_S A s.heap s.heap [] := va_S.rf
  have hP : va_P D.1 xk_CL [(o, .inr (4, [.int 0, .int 0, .int 0, .int 0, .int 0]))] s.heap := bP1 hP
  have hD : va_D A [(o, .inr (4, [.int 0, .int 0, .int 0, .int 0, .int 0]))] := xe_D1 ho
  refine lv_aload_n hx hb dX5_init_0 rfl (lv_at hl 0 rfl) ?_
  refine W.objInit hx hb hown (hts _ q600) (hts _ q68) (hts _ q69) rfl (by rw [hml]; exact hl.1) rfl dX5_init_1 (Nat.le_of_ble_eq_true rfl) (Nat.le_of_ble_eq_true rfl) ?_
  refine W.eq (g2 := F0 m 4 ls []) rfl ?_
  refine lv_aload_n hx hb dX5_init_4 rfl (lv_at hl 0 rfl) ?_
  refine lv_iconst (v := (-1)) hx hb dX5_init_5 (by decide) ?_
  refine va_put (D := D.1) (ci := 4) (v := .int (-1)) (ty := .int) (C := RX5) (T := TX5) (N := 5) hx hb hts in_X5 tyX5 tyX5_ok nmX5 hown hK.1 hP hD hS 0 rfl rfl 3 (by decide) (hts _ q609) (fun _ h9 => h9) rfl (by decide +kernel) rfl rfl (Nat.le_of_ble_eq_true rfl) dX5_init_6 (fun H locs hP hD hS => ?_)
  have hP : va_P D.1 xk_CL [(o, .inr (4, [.int 0, .int 0, .int 0, .int (-1), .int 0]))] H := hP
  have hD : va_D A [(o, .inr (4, [.int 0, .int 0, .int 0, .int (-1), .int 0]))] := hD
  refine lv_aload_n hx hb dX5_init_9 rfl (lv_at hl 0 rfl) ?_
  refine lv_iload_n hx hb dX5_init_10 rfl (lv_at hl 1 rfl) ?_
  refine va_put (D := D.1) (ci := 4) (v := .int a) (ty := .int) (C := RX5) (T := TX5) (N := 5) hx hb hts in_X5 tyX5 tyX5_ok nmX5 hown hK.1 hP hD hS 0 rfl rfl 0 (by decide) (hts _ q601) (fun _ h9 => h9) rfl (by decide +kernel) rfl rfl (Nat.le_of_ble_eq_true rfl) dX5_init_11 (fun H locs hP hD hS => ?_)
  have hP : va_P D.1 xk_CL [(o, .inr (4, [.int a, .int 0, .int 0, .int (-1), .int 0]))] H := hP
  have hD : va_D A [(o, .inr (4, [.int a, .int 0, .int 0, .int (-1), .int 0]))] := hD
  refine lv_aload_n hx hb dX5_init_14 rfl (lv_at hl 0 rfl) ?_
  refine lv_iload_n hx hb dX5_init_15 rfl (lv_at hl 2 rfl) ?_
  refine va_put (D := D.1) (ci := 4) (v := .int b1) (ty := .int) (C := RX5) (T := TX5) (N := 5) hx hb hts in_X5 tyX5 tyX5_ok nmX5 hown hK.1 hP hD hS 0 rfl rfl 1 (by decide) (hts _ q604) (fun _ h9 => h9) rfl (by decide +kernel) rfl rfl (Nat.le_of_ble_eq_true rfl) dX5_init_16 (fun H locs hP hD hS => ?_)
  have hP : va_P D.1 xk_CL [(o, .inr (4, [.int a, .int b1, .int 0, .int (-1), .int 0]))] H := hP
  have hD : va_D A [(o, .inr (4, [.int a, .int b1, .int 0, .int (-1), .int 0]))] := hD
  refine lv_aload_n hx hb dX5_init_19 rfl (lv_at hl 0 rfl) ?_
  refine lv_iload_n hx hb dX5_init_20 rfl (lv_at hl 3 rfl) ?_
  refine va_putF (D := D.1) (ci := 4) (v := .int c1) (ty := .int) (C := RX5) (T := TX5) (N := 5) hx hb hts in_X5 tyX5 tyX5_ok nmX5 hown hK.1 hP hD hS 0 rfl rfl 2 (by decide) (hts _ q607) (fun _ h9 => h9) rfl hin rfl (by decide +kernel) rfl rfl (Nat.le_of_ble_eq_true rfl) dX5_init_21 (fun H locs hP hD hS => ?_)
  have hP : va_P D.1 xk_CL [(o, .inr (4, [.int a, .int b1, .int c1, .int (-1), .int 0]))] H := hP
  have hD : va_D A [(o, .inr (4, [.int a, .int b1, .int c1, .int (-1), .int 0]))] := hD
  refine lv_aload_n hx hb dX5_init_24 rfl (lv_at hl 0 rfl) ?_
  refine lv_iload_n hx hb dX5_init_25 rfl (lv_at hl 2 rfl) ?_
  refine va_put (D := D.1) (ci := 4) (v := .int b1) (ty := .int) (C := RX5) (T := TX5) (N := 5) hx hb hts in_X5 tyX5 tyX5_ok nmX5 hown hK.1 hP hD hS 0 rfl rfl 4 (by decide) (hts _ q612) (fun _ h9 => h9) rfl (by decide +kernel) rfl rfl (Nat.le_of_ble_eq_true rfl) dX5_init_26 (fun H locs hP hD hS => ?_)
  have hP : va_P D.1 xk_CL [(o, .inr (4, [.int a, .int b1, .int c1, .int (-1), .int b1]))] H := hP
  have hD : va_D A [(o, .inr (4, [.int a, .int b1, .int c1, .int (-1), .int b1]))] := hD
  exact hR _ _ _ _ dX5_init_29 (hP 0 _ rfl) hS
set_option maxHeartbeats 4000000 in
theorem e_absInit (l : Launch) (D : xk_G) (A : Nat → Prop) (o : Nat) (ho : A o) (v : Nat) : Met l yJ1_init (ws_ yJ1_init cJ1_init 1 (none)) (xk_R 2 40) (xk_Pre D A (bO D o 5 [.int 0, .null, .int 0]) [.ref o]) (xk_Pv A (fun H => bO D o 5 [.int 0, .null, .int 0] H)) 0 0 A := by
  refine xk_startV (by decide +kernel) (Nat.le_of_ble_eq_true rfl) ?_
  intro p e s m args below meth c Q hAt hin hK hA hP hR ls hl
  obtain ⟨hx, hb, hml, hown, hts⟩ := id hAt
  have hl : lv_has ls 1 [(0, .ref o)] := hl
  have hS : va_S A s.heap s.heap [] := va_S.rf
  have hP : va_P D.1 xk_CL [(o, .inr (5, [.int 0, .null, .int 0]))] s.heap := bP1 hP
  have hD : va_D A [(o, .inr (5, [.int 0, .null, .int 0]))] := xe_D1 ho
  refine lv_aload_n hx hb dJ1_init_0 rfl (lv_at hl 0 rfl) ?_
  refine xe_cv (A1 := A) (va_runI (As := []) (rest := []) ⟨hx, hb, hml, hown, hts⟩ (e_colInit l D A (fun H => va_P D.1 xk_CL [(o, .inr (5, [.int 0, .null, .int 0]))] H) o) (cwI 0 hts (lw_meth q84) rfl rfl rfl (hts _ q38) (hts _ q82) (hts _ q83) rfl (by decide +kernel) ⟨Nat.le_of_ble_eq_true rfl, Nat.le_of_ble_eq_true rfl⟩) (xk_preS hK hP (fun q h => hA q (Nat.le_trans hS.1 h))) rfl rfl hl.1 rfl (lv_room (Nat.le_of_ble_eq_true rfl)) dJ1_init_1 ⟨Nat.le_refl _, Nat.le_refl _⟩) hS (fun _ h => h) (fun H locs hP _ _ hS => ?_)
  refine lv_aload_n hx hb dJ1_init_4 rfl (lv_at hl 0 rfl) ?_
  refine lv_iconst (v := 0) hx hb dJ1_init_5 (by decide) ?_
  refine va_put (D := D.1) (ci := 5) (v := .int 0) (ty := .int) (C := RJ2) (T := TJ2) (N := 3) hx hb hts in_J2 tyJ2 tyJ2_ok nmJ2 hown hK.1 hP hD hS 0 rfl rfl 0 (by decide) (hts _ q90) (fun _ h9 => h9) rfl (by decide +kernel) rfl rfl (Nat.le_of_ble_eq_true rfl) dJ1_init_6 (fun H locs hP hD hS => ?_)
  have hP : va_P D.1 xk_CL [(o, .inr (5, [.int 0, .null, .int 0]))] H := hP
  have hD : va_D A [(o, .inr (5, [.int 0, .null, .int 0]))] := hD
  exact hR _ _ _ _ dJ1_init_9 (hP 0 _ rfl) hS
