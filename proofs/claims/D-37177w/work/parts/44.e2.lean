/-! THE LIST's growing, walked (printed by gen/model.py) -/
set_option maxRecDepth 100000
theorem cdJ10_newLength : yJ10_newLength.cls ≠ "java/lang/invoke/MethodHandle" ∧ yJ10_newLength.cls ≠ "java/lang/invoke/VarHandle" ∧ (parseMethodDescriptor yJ10_newLength.desc).map (fun d => d.parameters.length) = some 3 := by decide +kernel
theorem cdJ12_copyOf_2 : yJ12_copyOf_2.cls ≠ "java/lang/invoke/MethodHandle" ∧ yJ12_copyOf_2.cls ≠ "java/lang/invoke/VarHandle" ∧ (parseMethodDescriptor yJ12_copyOf_2.desc).map (fun d => d.parameters.length) = some 3 := by decide +kernel
theorem cdJ12_copyOf : yJ12_copyOf.cls ≠ "java/lang/invoke/MethodHandle" ∧ yJ12_copyOf.cls ≠ "java/lang/invoke/VarHandle" ∧ (parseMethodDescriptor yJ12_copyOf.desc).map (fun d => d.parameters.length) = some 2 := by decide +kernel
set_option maxHeartbeats 4000000 in
theorem e_newLen (l : Launch) (D : xk_G) (A : Nat → Prop) (P : Heap → Prop) (n : Nat) (h2 : 10 ≤ n) (hn : n < 1000) : Met l yJ10_newLength (ws_ yJ10_newLength cJ10_newLength 4 (some .int)) (xk_R 1 40) (xk_Pre D A P [.int (nI n), .int 1, .int (nI (n / 2))]) (xk_Pi A (fun r H => r = nI (n + n / 2) ∧ P H)) 0 0 A := by
  refine xk_startI (by decide +kernel) (Nat.le_of_ble_eq_true rfl) ?_
  intro p e s m args below meth c Q hAt hin hK hA hP hR ls hl
  obtain ⟨hx, hb, hml, hown, hts⟩ := id hAt
  have hl : lv_has ls 4 [(0, .int (nI n)), (1, .int 1), (2, .int (nI (n / 2)))] := hl
  have hS : va_S A s.heap s.heap [] := va_S.rf
  refine lv_iload_n hx hb dJ10_newLength_0 rfl (lv_at hl 0 rfl) ?_
  refine lv_iload_n hx hb dJ10_newLength_1 rfl (lv_at hl 1 rfl) ?_
  refine lv_iload_n hx hb dJ10_newLength_2 rfl (lv_at hl 2 rfl) ?_
  refine va_mmax hx hb (hml.trans hl.1.symm) hown (hts _ q402) (hts _ q293) (hts _ q52) (hts _ q294) (Nat.le_of_ble_eq_true rfl) (Nat.le_of_ble_eq_true rfl) (by omega) (by omega) dJ10_newLength_3 ?_
  refine xk_to (y := nI (n / 2)) (e_mx h2 hn) ?_
  refine lv_iadd hx hb dJ10_newLength_6 ?_
  refine xk_to (y := nI (n + n / 2)) (nI_add n (n / 2)) ?_
  refine lv_istore_n (lv' := [(3, .int (nI (n + n / 2))), (0, .int (nI n)), (1, .int 1), (2, .int (nI (n / 2)))]) hx hb dJ10_newLength_7 rfl hl (by decide) rfl (fun ls hl => ?_)
  refine lv_iconst (v := 0) hx hb dJ10_newLength_8 (by decide) ?_
  refine lv_iload_n hx hb dJ10_newLength_9 rfl (lv_at hl 0 rfl) ?_
  refine mk_ge (tgt := 21) (a := 0) (b := n + n / 2) hx hb (by omega) (by omega) dJ10_newLength_10 (by decide) (fun c_1 => ?_) (fun c_1 => ?_)
  · skip
    first | exact absurd c_1 (by omega) | exact absurd c_1 (e_nmx h2 hn)
  refine lv_iload_n hx hb dJ10_newLength_13 rfl (lv_at hl 0 rfl) ?_
  refine lv_ldc hx hb hown (hts _ q403) dJ10_newLength_14 ?_
  refine lv_icmp_gt (tgt := 21) hx hb dJ10_newLength_16 (by decide) (fun c_2 => ?_) (fun c_2 => ?_)
  · skip
    first | exact absurd c_2 (by omega) | exact absurd c_2 (e_nmx h2 hn)
  refine lv_iload_n hx hb dJ10_newLength_19 rfl (lv_at hl 0 rfl) ?_
  exact hR _ _ _ _ _ dJ10_newLength_20 ⟨rfl, hP⟩ hS
set_option maxHeartbeats 4000000 in
theorem e_copy2 (l : Launch) (D : xk_G) (A : Nat → Prop) (ci : Nat) {C : String} {T : u_T} {Nf : Nat} (hc : xk_CL[ci]? = some (C, T, Nf)) (hcast : Cond.castable C "java/lang/Object" ∈ lw_tbl) (S0 a0 N M : Nat) (f : Nat → Option Nat) (ho : A a0) (hNM : N ≤ M) (hM : M < 90 + 1) : Met l yJ12_copyOf_2 (ws_ yJ12_copyOf_2 cJ12_copyOf_2 4 (some (.array (.object "java/lang/Object")))) (xk_Rm 1 60 1 90) (xe_Pre D A (fun H => S0 ≤ H.size ∧ bQ D a0 1 N f H ∧ ∀ i, i < N → ∃ y, f i = some y ∧ ¬ A y ∧ xe_El D ci y H) [.ref a0, .int (nI M), .ref (D.2 102)]) (xk_Pr A (fun r H => S0 ≤ r ∧ bQ D r 1 M (va_cpy f (fun _ => none) 0 0 N) H)) 1 90 A := by
  refine xe_startR (by decide +kernel) (Nat.le_of_ble_eq_true rfl) (Or.inr ⟨_, rfl⟩) ?_
  intro p e s m args below meth c Q hAt hin hK hE hA hP hR ls hl
  obtain ⟨hx, hb, hml, hown, hts⟩ := id hAt
  have hl : lv_has ls 4 [(0, .ref a0), (1, .int (nI M)), (2, .ref (D.2 102))] := hl
  have hS : va_S A s.heap s.heap [] := va_S.rf
  have hQ0 := hP.2.1
  have hM : M < 100 := by omega
  have hM9 : M ≤ 90 := by omega
  refine lv_aload_n hx hb dJ12_copyOf_2_0 rfl (lv_at hl 2 rfl) ?_
  refine va_ldcM hx hb hown (hts _ q428) hE.2.2.2.2.2.2.1 dJ12_copyOf_2_1 ?_
  refine lv_acmp_ne (rx := some (D.2 102)) (ry := some (D.2 102)) (tgt := 13) hx hb dJ12_copyOf_2_3 (by decide) (fun z => absurd rfl z) (fun _ => ?_)
  refine lv_iload_n hx hb dJ12_copyOf_2_6 rfl (lv_at hl 1 rfl) ?_
  refine xe_newQ hAt hK hS (hts _ q430) hM (Nat.le_of_ble_eq_true rfl) (by show 0 + M ≤ 90; omega) dJ12_copyOf_2_7 (fun q7 H eq7 hQ7 hz7 hF7 hS => ?_)
  have hQ0 := hQ0.kept (hF7 _ hQ0.lt)
  have hlt0 : a0 < q7 := by rw [eq7]; exact Nat.lt_of_lt_of_le (show a0 < s.heap.size from hP.2.1.lt) (Nat.le_refl _)
  have hA7 : A q7 := hA _ (by rw [eq7]; exact Nat.le_refl _)
  refine lv_goto (tgt := 24) hx hb dJ12_copyOf_2_10 (by decide) ?_
  refine lv_astore_n (lv' := [(3, .ref q7), (0, .ref a0), (1, .int (nI M)), (2, .ref (D.2 102))]) hx hb dJ12_copyOf_2_24 rfl hl (by decide) rfl (fun ls hl => ?_)
  refine lv_aload_n hx hb dJ12_copyOf_2_25 rfl (lv_at hl 1 rfl) ?_
  refine lv_iconst (v := 0) hx hb dJ12_copyOf_2_26 (by decide) ?_
  refine lv_aload_n hx hb dJ12_copyOf_2_27 rfl (lv_at hl 0 rfl) ?_
  refine lv_iconst (v := 0) hx hb dJ12_copyOf_2_28 (by decide) ?_
  refine lv_aload_n hx hb dJ12_copyOf_2_29 rfl (lv_at hl 1 rfl) ?_
  refine xe_alen hAt hK hQ0 dJ12_copyOf_2_30 ?_
  refine lv_iload_n hx hb dJ12_copyOf_2_31 rfl (lv_at hl 2 rfl) ?_
  refine va_mmin hx hb (hml.trans hl.1.symm) hown (hts _ q431) (hts _ q432) (hts _ q52) (hts _ q433) (Nat.le_of_ble_eq_true rfl) (Nat.le_of_ble_eq_true rfl) (Nat.le_refl _) (by show 0 + M ≤ 90; omega) dJ12_copyOf_2_32 ?_
  refine xk_to (y := nI N) (e_mn hNM hM) ?_
  refine va_copyq (C := C) hx hb (hml.trans hl.1.symm) hown (hts _ q434) (hts _ q436) (hts _ q435) (hts _ q54) hK.1 (xe_P2 hQ0 hQ7) (xe_D2 ho hA7 (Nat.ne_of_lt hlt0)) hS 0 1 1 1 rfl rfl rfl rfl (sp := 0) (dp := 0) (n := nI N) (by decide) (by decide) (nI_pos (by omega)) (by rw [nI_clamp (by omega)]; show 0 + N ≤ N; omega) (by rw [nI_clamp (by omega)]; show 0 + N ≤ M; omega) (fun i hi y hy => ?_) (fun comp c0 z1 z2 => e_asg hK hcast z1 z2) (Nat.le_of_ble_eq_true rfl) (Nat.le_of_ble_eq_true rfl) dJ12_copyOf_2_35 (fun H locs hPP hDD hS => ?_)
  · rw [nI_clamp (by omega)] at hi
    have hy : f i = some y := by
      have e0 : (0 : Int32).toNatClampNeg + i = i := by rw [show (0 : Int32).toNatClampNeg = 0 from rfl, Nat.zero_add]
      rw [e0] at hy
      exact hy
    obtain ⟨y1, y2, y3, cell, y4, y5, y6⟩ := hP.2.2 i hi
    cases hy.symm.trans y2
    exact ⟨cell, by rw [hS.2.1 _ (Array.getElem?_eq_some_iff.mp y4).1 y3]; exact y4, y5, by rw [y6]; exact (hK.1.1 ci (C, T, Nf) hc).2.1⟩
  have hQ0 : bQ D a0 1 N f H := hPP 0 _ rfl
  have hQ7 : bQ D q7 1 M (va_cpy f (fun _ => none) 0 0 N) H := by
    have h1 := hPP 1 _ rfl
    rw [nI_clamp (by omega)] at h1
    exact h1
  refine lv_aload_n hx hb dJ12_copyOf_2_38 rfl (lv_at hl 0 rfl) ?_
  refine W.widen (Nat.le_refl _) (by show 0 + M ≤ 90; omega) ?_
  exact hR _ _ _ _ _ dJ12_copyOf_2_39 ⟨by rw [eq7]; exact hP.1, hQ7⟩ hS
set_option maxHeartbeats 4000000 in
theorem e_copy (l : Launch) (D : xk_G) (A : Nat → Prop) (ci : Nat) {C : String} {T : u_T} {Nf : Nat} (hc : xk_CL[ci]? = some (C, T, Nf)) (hcast : Cond.castable C "java/lang/Object" ∈ lw_tbl) (S0 a0 N M : Nat) (f : Nat → Option Nat) (ho : A a0) (hNM : N ≤ M) (hM : M < 90 + 1) : Met l yJ12_copyOf (ws_ yJ12_copyOf cJ12_copyOf 2 (some (.array (.object "java/lang/Object")))) (xk_Rm 2 100 1 90) (xe_Pre D A (fun H => S0 ≤ H.size ∧ bQ D a0 1 N f H ∧ ∀ i, i < N → ∃ y, f i = some y ∧ ¬ A y ∧ xe_El D ci y H) [.ref a0, .int (nI M)]) (xk_Pr A (fun r H => S0 ≤ r ∧ bQ D r 1 M (va_cpy f (fun _ => none) 0 0 N) H)) 1 90 A := by
  refine xe_startR (by decide +kernel) (Nat.le_of_ble_eq_true rfl) (Or.inr ⟨_, rfl⟩) ?_
  intro p e s m args below meth c Q hAt hin hK hE hA hP hR ls hl
  obtain ⟨hx, hb, hml, hown, hts⟩ := id hAt
  have hl : lv_has ls 2 [(0, .ref a0), (1, .int (nI M))] := hl
  have hS : va_S A s.heap s.heap [] := va_S.rf
  refine lv_aload_n hx hb dJ12_copyOf_0 rfl (lv_at hl 0 rfl) ?_
  refine lv_iload_n hx hb dJ12_copyOf_1 rfl (lv_at hl 1 rfl) ?_
  refine lv_aload_n hx hb dJ12_copyOf_2 rfl (lv_at hl 0 rfl) ?_
  refine va_getC (C := "[Ljava/lang/Object;") hx hb (hml.trans hl.1.symm) hown (hts _ q410) (va_Dc.use hE.2.2.2.2.2.2.2) (hts _ q1058) (hts _ q411) (hts _ q424) hE.2.2.2.2.2.2.1 (e_arO hK hP.2.1) (Nat.le_of_ble_eq_true rfl) (Nat.le_of_ble_eq_true rfl) dJ12_copyOf_3 ?_
  refine xe_cr (A1 := A) (va_runS (As := [.ref a0, .int (nI M), .ref (D.2 102)]) (rest := []) ⟨hx, hb, hml, hown, hts⟩ (e_copy2 l D A ci hc hcast S0 a0 N M f ho hNM hM) (va_cwS 3 hts (lw_S q425 q426 q53 q427) rfl rfl rfl cdJ12_copyOf_2 ⟨Nat.le_of_ble_eq_true rfl, Nat.le_of_ble_eq_true rfl⟩) (xe_preS hK (hE.at hS (fun _ h => h)) hP (fun q h => hA q (Nat.le_trans hS.1 h))) rfl rfl hl.1 rfl (lv_room (Nat.le_of_ble_eq_true rfl)) dJ12_copyOf_6 ⟨(Nat.le_of_ble_eq_true rfl), (Nat.le_of_ble_eq_true rfl)⟩) hS (fun _ h => h) (fun r6 H locs hq hz hF hS => ?_)
  exact hR _ _ _ _ _ dJ12_copyOf_9 hq hS
set_option maxHeartbeats 4000000 in
theorem e_grow2 (l : Launch) (D : xk_G) (A : Nat → Prop) (ci : Nat) {C : String} {T : u_T} {Nf : Nat} (hc : xk_CL[ci]? = some (C, T, Nf)) (hcast : Cond.castable C "java/lang/Object" ∈ lw_tbl) (S0 q aa n : Nat) (mc : Int32) (f : Nat → Option Nat) (hq0 : A q) (hn40 : n ≤ 40) (haa : n ≠ 0 → A aa ∧ aa ≠ q) (hqS : q < S0) : Met l yJ2_grow_2 (ws_ yJ2_grow_2 cJ2_grow_2 4 (some (.array (.object "java/lang/Object")))) (xk_Rm 3 140 1 90) (xe_Pre D A (fun H => S0 ≤ H.size ∧ bO D q 5 [.int mc, .ref aa, .int (nI n)] H ∧ ((n = 0 ∧ aa = D.2 100) ∨ (10 ≤ n ∧ bQ D aa 1 n f H ∧ ∀ i, i < n → ∃ y, f i = some y ∧ ¬ A y ∧ xe_El D ci y H))) [.ref q, .int (nI (n + 1))]) (xk_Pr A (fun r H => S0 ≤ r ∧ bO D q 5 [.int mc, .ref r, .int (nI n)] H ∧ ∃ (N : Nat) (f' : Nat → Option Nat), n + 1 ≤ N ∧ 10 ≤ N ∧ N ≤ 60 ∧ bQ D r 1 N f' H ∧ ∀ i, i < n → f' i = f i)) 1 90 A := by
  refine xe_startR (by decide +kernel) (Nat.le_of_ble_eq_true rfl) (Or.inr ⟨_, rfl⟩) ?_
  intro p e s m args below meth c Q hAt hin hK hE hA hP hR ls hl
  obtain ⟨hx, hb, hml, hown, hts⟩ := id hAt
  have hl : lv_has ls 4 [(0, .ref q), (1, .int (nI (n + 1)))] := hl
  have hS : va_S A s.heap s.heap [] := va_S.rf
  have hO := hP.2.1
  rcases hP.2.2 with ⟨rfl, rfl⟩ | ⟨h10, hQ, hEl⟩
  · skip
    refine lv_aload_n hx hb dJ2_grow_2_0 rfl (lv_at hl 0 rfl) ?_
    refine xk_getO hAt hK hO (C := RJ2) (T := TJ2) (N := 3) rfl 1 (by decide) (v := .ref (D.2 100)) rfl (hts _ q88) (fun _ h => h) in_J2 dJ2_grow_2_1 ?_
    refine va_tlen hx hb hE.2.2.2.2.1.2 hS (v := 0) rfl dJ2_grow_2_4 ?_
    refine lv_istore_n (lv' := [(2, .int 0), (0, .ref q), (1, .int (nI (0 + 1)))]) hx hb dJ2_grow_2_5 rfl hl (by decide) rfl (fun ls hl => ?_)
    refine lv_iload_n hx hb dJ2_grow_2_6 rfl (lv_at hl 0 rfl) ?_
    refine lv_if_gt (tgt := 20) hx hb dJ2_grow_2_7 (by decide) (fun c_1 => ?_) (fun c_1 => ?_)
    · exact absurd c_1 (by decide)
    refine lv_aload_n hx hb dJ2_grow_2_10 rfl (lv_at hl 1 rfl) ?_
    refine xk_getO hAt hK hO (C := RJ2) (T := TJ2) (N := 3) rfl 1 (by decide) (v := .ref (D.2 100)) rfl (hts _ q88) (fun _ h => h) in_J2 dJ2_grow_2_11 ?_
    refine va_gets hx hb hE.2.2.2.2.1.1 hS hown (hts _ q86) (fun _ h => h) dJ2_grow_2_14 ?_
    refine lv_acmp_eq (rx := some (D.2 100)) (ry := some (D.2 100)) (tgt := 45) hx hb dJ2_grow_2_17 (by decide) (fun _ => ?_) (fun z => absurd rfl z)
    refine lv_aload_n hx hb dJ2_grow_2_45 rfl (lv_at hl 1 rfl) ?_
    refine lv_bipush (v := 10) hx hb dJ2_grow_2_46 (by decide) ?_
    refine lv_iload_n hx hb dJ2_grow_2_48 rfl (lv_at hl 2 rfl) ?_
    refine va_mmax hx hb (hml.trans hl.1.symm) hown (hts _ q437) (hts _ q293) (hts _ q52) (hts _ q294) (Nat.le_of_ble_eq_true rfl) (Nat.le_of_ble_eq_true rfl) (Nat.le_of_ble_eq_true rfl) (Nat.le_of_ble_eq_true rfl) dJ2_grow_2_49 ?_
    refine xk_to (y := nI 10) (by decide) ?_
    refine xe_newQ hAt hK hS (hts _ q438) (by decide) (Nat.le_of_ble_eq_true rfl) (Nat.le_of_ble_eq_true rfl) dJ2_grow_2_52 (fun q5 H eq5 hQ5 hz5 hF5 hS => ?_)
    have hO := hO.kept (hF5 _ hO.lt)
    have hlt5 : q < q5 := by rw [eq5]; exact hP.2.1.lt
    refine lv_dup_x1 hx hb dJ2_grow_2_55 rfl rfl ?_
    refine xk_putO hAt hK hS hO hq0 (C := RJ2) (T := TJ2) (N := 3) rfl 1 (by decide) (v := .ref q5) (hts _ q88) (fun _ h => h) rfl (ty := (.array (.object "java/lang/Object"))) (by decide +kernel) rfl rfl tyJ2 tyJ2_ok nmJ2 (Nat.le_of_ble_eq_true rfl) in_J2 dJ2_grow_2_56 (fun H locs hO oq hz hS => ?_)
    have hO : bO D q 5 [.int mc, .ref q5, .int (nI 0)] H := hO
    have hQ5 := hQ5.kept (oq q5 (Nat.ne_of_gt hlt5))
    refine W.widen (k := 1) (n := 90) (Nat.le_of_ble_eq_true rfl) (Nat.le_of_ble_eq_true rfl) ?_
    exact hR _ _ _ _ _ dJ2_grow_2_59 ⟨by rw [eq5]; exact hP.1, hO, 10, _, by omega, by omega, by omega, hQ5, fun i hi => absurd hi (Nat.not_lt_zero i)⟩ hS
  · skip
    obtain ⟨hAa, hne⟩ := haa (by omega)
    have hO0 : q < S0 := hqS
    refine lv_aload_n hx hb dJ2_grow_2_0 rfl (lv_at hl 0 rfl) ?_
    refine xk_getO hAt hK hO (C := RJ2) (T := TJ2) (N := 3) rfl 1 (by decide) (v := .ref aa) rfl (hts _ q88) (fun _ h => h) in_J2 dJ2_grow_2_1 ?_
    refine xe_alen hAt hK hQ dJ2_grow_2_4 ?_
    refine lv_istore_n (lv' := [(2, .int (nI n)), (0, .ref q), (1, .int (nI (n + 1)))]) hx hb dJ2_grow_2_5 rfl hl (by decide) rfl (fun ls hl => ?_)
    refine lv_iload_n hx hb dJ2_grow_2_6 rfl (lv_at hl 0 rfl) ?_
    refine lv_if_gt (tgt := 20) hx hb dJ2_grow_2_7 (by decide) (fun _ => ?_) (fun z => absurd (nI_lt (a := 0) (b := n) (by omega) (by omega)) z)
    refine lv_iload_n hx hb dJ2_grow_2_20 rfl (lv_at hl 0 rfl) ?_
    refine lv_iload_n hx hb dJ2_grow_2_21 rfl (lv_at hl 2 rfl) ?_
    refine lv_iload_n hx hb dJ2_grow_2_22 rfl (lv_at hl 0 rfl) ?_
    refine lv_isub hx hb dJ2_grow_2_23 ?_
    refine xk_to (y := 1) (e_sub1 n) ?_
    refine lv_iload_n hx hb dJ2_grow_2_24 rfl (lv_at hl 0 rfl) ?_
    refine lv_iconst (v := 1) hx hb dJ2_grow_2_25 (by decide) ?_
    refine lv_ishr hx hb dJ2_grow_2_26 ?_
    refine xk_to (y := nI (n / 2)) (e_shr (by omega)) ?_
    refine mk_ciS hAt hK (P := fun G => G = s.heap) rfl hA hS (As := [.int (nI n), .int 1, .int (nI (n / 2))]) (rest := []) (e_newLen l D A (fun G => G = s.heap) n h10 (by omega)) (va_cwS 3 hts (lw_S q399 q400 q51 q401) rfl rfl rfl cdJ10_newLength ⟨Nat.le_of_ble_eq_true rfl, Nat.le_of_ble_eq_true rfl⟩) rfl hl.1 rfl (Nat.le_of_ble_eq_true rfl) dJ2_grow_2_27 ⟨Nat.le_of_ble_eq_true rfl, Nat.le_of_ble_eq_true rfl⟩ (fun r H locs hq hS => ?_)
    obtain ⟨rfl, rfl⟩ := hq
    refine lv_istore_n (lv' := [(3, .int (nI (n + n / 2))), (2, .int (nI n)), (0, .ref q), (1, .int (nI (n + 1)))]) hx hb dJ2_grow_2_30 rfl hl (by decide) rfl (fun ls hl => ?_)
    refine lv_aload_n hx hb dJ2_grow_2_31 rfl (lv_at hl 2 rfl) ?_
    refine lv_aload_n hx hb dJ2_grow_2_32 rfl (lv_at hl 2 rfl) ?_
    refine xk_getO hAt hK hO (C := RJ2) (T := TJ2) (N := 3) rfl 1 (by decide) (v := .ref aa) rfl (hts _ q88) (fun _ h => h) in_J2 dJ2_grow_2_33 ?_
    refine lv_iload_n hx hb dJ2_grow_2_36 rfl (lv_at hl 0 rfl) ?_
    have hsub : ∀ x, (s.heap.size ≤ x ∨ x = aa) → A x := fun x h => h.elim (hA x) (fun z => by rw [z]; exact hAa)
    refine xe_cr (A1 := (fun x => s.heap.size ≤ x ∨ x = aa)) (va_runS (As := [.ref aa, .int (nI (n + n / 2))]) (rest := [.ref q]) ⟨hx, hb, hml, hown, hts⟩ (e_copy l D (fun x => s.heap.size ≤ x ∨ x = aa) ci hc hcast S0 aa n (n + n / 2) f (Or.inr rfl) (by omega) (by omega)) (va_cwS 2 hts (lw_S q407 q408 q53 q409) rfl rfl rfl cdJ12_copyOf ⟨Nat.le_of_ble_eq_true rfl, Nat.le_of_ble_eq_true rfl⟩) (xe_preS hK (hE.at hS hsub) ⟨hP.1, hQ, fun i hi => by obtain ⟨y, y1, y2, y3⟩ := hEl i hi; exact ⟨y, y1, fun z => z.elim (fun z => absurd y3.lt (Nat.not_lt.mpr z)) (fun z => y2 (by rw [z]; exact hAa)), y3⟩⟩ (fun q h => Or.inl h)) rfl rfl hl.1 rfl (lv_room (Nat.le_of_ble_eq_true rfl)) dJ2_grow_2_37 ⟨(Nat.le_of_ble_eq_true rfl), (Nat.le_of_ble_eq_true rfl)⟩) hS hsub (fun r7 H locs hq hz7 hF7 hS => ?_)
    have hO := hO.kept (hF7 q hO.lt (fun z => z.elim (fun z => absurd hO.lt (Nat.not_lt.mpr z)) (fun z => hne z.symm)))
    obtain ⟨hr0, hQ7⟩ := hq
    have hlt7 : q < r7 := Nat.lt_of_lt_of_le hO0 hr0
    refine lv_dup_x1 hx hb dJ2_grow_2_40 rfl rfl ?_
    refine xk_putO hAt hK hS hO hq0 (C := RJ2) (T := TJ2) (N := 3) rfl 1 (by decide) (v := .ref r7) (hts _ q88) (fun _ h => h) rfl (ty := (.array (.object "java/lang/Object"))) (by decide +kernel) rfl rfl tyJ2 tyJ2_ok nmJ2 (Nat.le_of_ble_eq_true rfl) in_J2 dJ2_grow_2_41 (fun H locs hO oq hz hS => ?_)
    have hO : bO D q 5 [.int mc, .ref r7, .int (nI n)] H := hO
    have hQ7 := hQ7.kept (oq r7 (Nat.ne_of_gt hlt7))
    exact hR _ _ _ _ _ dJ2_grow_2_44 ⟨hr0, hO, n + n / 2, _, by omega, by omega, by omega, hQ7, fun i hi => e_cpy f hi⟩ hS
