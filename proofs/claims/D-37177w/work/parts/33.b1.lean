/-! THE SYSTEM's methods that only read, walked (printed by gen/model.py) -/
set_option maxRecDepth 100000
theorem xk_lwF {own : String} {idx : Nat} {C : String} {x y : MethodName} {b : ByteArray} {L : Nat} {r : Option FieldType} (h1 : Cond.methodLink own idx x ∈ lw_all) (h2 : Cond.selects C x y ∈ lw_all) (h3 : Cond.instanceMethod y ∈ lw_all) (h4 : Cond.initialized y.cls ∈ lw_all) (h5 : Cond.code y b L r ∈ lw_all) : GoodIn lw_all (va_wsF own idx C x y (ws_ y b L r)) := by
  refine lw_app ?_ (lw_meth h5)
  intro w hw
  simp only [List.mem_cons, List.not_mem_nil, or_false] at hw
  rcases hw with e | e | e | e
  · rw [e]; exact h1
  · rw [e]; exact h2
  · rw [e]; exact h3
  · rw [e]; exact h4
theorem cdJ9_intValue : yJ9_intValue.cls = RJ9 ∧ yJ9_intValue.cls ≠ "java/lang/invoke/MethodHandle" ∧ yJ9_intValue.cls ≠ "java/lang/invoke/VarHandle" ∧ (parseMethodDescriptor yJ9_intValue.desc).map (fun d => d.parameters.length) = some 0 := by decide +kernel
theorem cdX1_letterOf : yX1_letterOf.cls ≠ "java/lang/invoke/MethodHandle" ∧ yX1_letterOf.cls ≠ "java/lang/invoke/VarHandle" ∧ (parseMethodDescriptor yX1_letterOf.desc).map (fun d => d.parameters.length) = some 2 := by decide +kernel
theorem cdX1_fitOf : yX1_fitOf.cls = RX1 ∧ yX1_fitOf.cls ≠ "java/lang/invoke/MethodHandle" ∧ yX1_fitOf.cls ≠ "java/lang/invoke/VarHandle" ∧ (parseMethodDescriptor yX1_fitOf.desc).map (fun d => d.parameters.length) = some 2 := by decide +kernel
theorem cdX1_touches : yX1_touches.cls = RX1 ∧ yX1_touches.cls ≠ "java/lang/invoke/MethodHandle" ∧ yX1_touches.cls ≠ "java/lang/invoke/VarHandle" ∧ (parseMethodDescriptor yX1_touches.desc).map (fun d => d.parameters.length) = some 2 := by decide +kernel
theorem cdX1_nearnessOf : yX1_nearnessOf.cls = RX1 ∧ yX1_nearnessOf.cls ≠ "java/lang/invoke/MethodHandle" ∧ yX1_nearnessOf.cls ≠ "java/lang/invoke/VarHandle" ∧ (parseMethodDescriptor yX1_nearnessOf.desc).map (fun d => d.parameters.length) = some 1 := by decide +kernel
theorem cdX1_lockOf : yX1_lockOf.cls = RX1 ∧ yX1_lockOf.cls ≠ "java/lang/invoke/MethodHandle" ∧ yX1_lockOf.cls ≠ "java/lang/invoke/VarHandle" ∧ (parseMethodDescriptor yX1_lockOf.desc).map (fun d => d.parameters.length) = some 3 := by decide +kernel
theorem cdX1_schooled : yX1_schooled.cls = RX1 ∧ yX1_schooled.cls ≠ "java/lang/invoke/MethodHandle" ∧ yX1_schooled.cls ≠ "java/lang/invoke/VarHandle" ∧ (parseMethodDescriptor yX1_schooled.desc).map (fun d => d.parameters.length) = some 1 := by decide +kernel
theorem cdX4_is : yX4_is.cls = RX4 ∧ yX4_is.cls ≠ "java/lang/invoke/MethodHandle" ∧ yX4_is.cls ≠ "java/lang/invoke/VarHandle" ∧ (parseMethodDescriptor yX4_is.desc).map (fun d => d.parameters.length) = some 2 := by decide +kernel
theorem cdX4_isLost : yX4_isLost.cls = RX4 ∧ yX4_isLost.cls ≠ "java/lang/invoke/MethodHandle" ∧ yX4_isLost.cls ≠ "java/lang/invoke/VarHandle" ∧ (parseMethodDescriptor yX4_isLost.desc).map (fun d => d.parameters.length) = some 0 := by decide +kernel
theorem cdX2_metBy : yX2_metBy.cls = RX2 ∧ yX2_metBy.cls ≠ "java/lang/invoke/MethodHandle" ∧ yX2_metBy.cls ≠ "java/lang/invoke/VarHandle" ∧ (parseMethodDescriptor yX2_metBy.desc).map (fun d => d.parameters.length) = some 1 := by decide +kernel
theorem cdX2_meets : yX2_meets.cls = RX2 ∧ yX2_meets.cls ≠ "java/lang/invoke/MethodHandle" ∧ yX2_meets.cls ≠ "java/lang/invoke/VarHandle" ∧ (parseMethodDescriptor yX2_meets.desc).map (fun d => d.parameters.length) = some 1 := by decide +kernel
theorem cdX2_invaderSizes : yX2_invaderSizes.cls = RX2 ∧ yX2_invaderSizes.cls ≠ "java/lang/invoke/MethodHandle" ∧ yX2_invaderSizes.cls ≠ "java/lang/invoke/VarHandle" ∧ (parseMethodDescriptor yX2_invaderSizes.desc).map (fun d => d.parameters.length) = some 0 := by decide +kernel
theorem cdX2_helpers : yX2_helpers.cls = RX2 ∧ yX2_helpers.cls ≠ "java/lang/invoke/MethodHandle" ∧ yX2_helpers.cls ≠ "java/lang/invoke/VarHandle" ∧ (parseMethodDescriptor yX2_helpers.desc).map (fun d => d.parameters.length) = some 0 := by decide +kernel
theorem cdX2_isCalmed : yX2_isCalmed.cls = RX2 ∧ yX2_isCalmed.cls ≠ "java/lang/invoke/MethodHandle" ∧ yX2_isCalmed.cls ≠ "java/lang/invoke/VarHandle" ∧ (parseMethodDescriptor yX2_isCalmed.desc).map (fun d => d.parameters.length) = some 1 := by decide +kernel
theorem cdX2_ownTouched : yX2_ownTouched.cls = RX2 ∧ yX2_ownTouched.cls ≠ "java/lang/invoke/MethodHandle" ∧ yX2_ownTouched.cls ≠ "java/lang/invoke/VarHandle" ∧ (parseMethodDescriptor yX2_ownTouched.desc).map (fun d => d.parameters.length) = some 1 := by decide +kernel
set_option maxHeartbeats 4000000 in
theorem b_letterOf (l : Launch) (D : xk_G) (A : Nat → Prop) (P : Heap → Prop) (w : Int32) (q : Nat) : Met l yX1_letterOf (ws_ yX1_letterOf cX1_letterOf 2 (some .int)) (xk_R 0 0) (xk_Pre D A P [.int w, .int (nI q)]) (xk_Pi A (fun r H => r = nI (mk_ln w q) ∧ P H)) 0 0 A := by
  refine xk_startI (by decide +kernel) (Nat.le_of_ble_eq_true rfl) ?_
  intro p e s m args below meth c Q hAt hin hK hA hP hR ls hl
  obtain ⟨hx, hb, hml, hown, hts⟩ := id hAt
  have hl : lv_has ls 2 [(0, .int w), (1, .int (nI q))] := hl
  have hS : va_S A s.heap s.heap [] := va_S.rf
  refine lv_iload_n hx hb dX1_letterOf_0 rfl (lv_at hl 0 rfl) ?_
  refine lv_iconst (v := 2) hx hb dX1_letterOf_1 (by decide) ?_
  refine lv_iload_n hx hb dX1_letterOf_2 rfl (lv_at hl 1 rfl) ?_
  refine lv_imul hx hb dX1_letterOf_3 ?_
  refine xk_to (y := nI (2 * q)) (pk_mul 2 q) ?_
  refine lv_ishr hx hb dX1_letterOf_4 ?_
  refine lv_iconst (v := 3) hx hb dX1_letterOf_5 (by decide) ?_
  refine lv_iand hx hb dX1_letterOf_6 ?_
  exact hR _ _ _ _ _ dX1_letterOf_7 (⟨mk_ln_eq w q, hP⟩) hS
set_option maxHeartbeats 4000000 in
theorem b_fitOf (l : Launch) (D : xk_G) (A : Nat → Prop) (ad : Nat → Nat) (ρ : Nat) (σ : Nat → Nat → Int32) (nw : Nat → Int32) (n : Nat → Nat) (a b : Int32) : Met l yX1_fitOf (ws_ yX1_fitOf cX1_fitOf 5 (some .int)) (xk_R 1 21) (xk_Pre D A (bP D ad ρ σ nw n) [.ref (ad 0), .int a, .int b]) (xk_Pi A (fun r H => r = mk_fit (σ 0) a b ∧ bP D ad ρ σ nw n H)) 0 0 A := by
  refine xk_startI (by decide +kernel) (Nat.le_of_ble_eq_true rfl) ?_
  intro p e s m args below meth c Q hAt hin hK hA hP hR ls hl
  obtain ⟨hx, hb, hml, hown, hts⟩ := id hAt
  have hl : lv_has ls 5 [(0, .ref (ad 0)), (1, .int a), (2, .int b)] := hl
  have hS : va_S A s.heap s.heap [] := va_S.rf
  refine lv_iconst (v := 0) hx hb dX1_fitOf_0 (by decide) ?_
  refine lv_istore_n (lv' := [(3, .int 0), (0, .ref (ad 0)), (1, .int a), (2, .int b)]) hx hb dX1_fitOf_1 rfl hl (by decide) rfl (fun ls hl => ?_)
  refine lv_iconst (v := 0) hx hb dX1_fitOf_2 (by decide) ?_
  refine lv_istore (lv' := [(4, .int 0), (3, .int 0), (0, .ref (ad 0)), (1, .int a), (2, .int b)]) hx hb dX1_fitOf_3 hl (by decide) rfl (fun ls hl => ?_)
  have L5 : ∀ (fu i5 : Nat), 4 + 1 ≤ i5 + fu → i5 ≤ 4 → ∀ (H : Heap) (locs : List Loc) (ls : Array Slot) (v3 : Int32), v3 = mk_fitR (σ 0) a b i5 → bP D ad ρ σ nw n H → va_S A s.heap H locs → lv_has ls 5 [(4, .int (nI i5)), (3, .int v3), (0, .ref (ad 0)), (1, .int a), (2, .int b)] → W p l e (xk_R 1 21) s m args below meth c H locs 0 0 Q (F0 m 5 ls []) := by
    intro fu
    induction fu with
    | zero => intro i5 h5a h5b; exact absurd h5a (by omega)
    | succ fu ih5 =>
      intro i5 h5a h5b  H locs ls v3 ev3 hP hS hl
      subst ev3
      refine lv_iload hx hb dX1_fitOf_5 (lv_at hl 0 rfl) ?_
      refine lv_iconst (v := 4) hx hb dX1_fitOf_7 (by decide) ?_
      refine mk_ge (tgt := 38) (a := i5) (b := 4) hx hb (by omega) (by omega) dX1_fitOf_8 (by decide) (fun c_1 => ?_) (fun c_1 => ?_)
      · skip
        obtain rfl : i5 = 4 := by omega
        refine lv_iload_n hx hb dX1_fitOf_38 rfl (lv_at hl 1 rfl) ?_
        exact hR _ _ _ _ _ dX1_fitOf_39 (⟨rfl, hP⟩) hS
      have hl1 := mk_ln_lt a i5
      have hl2 := mk_ln_lt b i5
      refine lv_iload_n hx hb dX1_fitOf_11 rfl (lv_at hl 1 rfl) ?_
      refine lv_aload_n hx hb dX1_fitOf_12 rfl (lv_at hl 2 rfl) ?_
      refine xk_getO hAt hK (b0 hP) (C := RX1) (T := TX1) (N := 6) rfl 0 (by decide) (v := .ref (ad 1)) rfl (hts _ q135) (fun _ h => h) in_X1 dX1_fitOf_13 ?_
      refine lv_iload_n hx hb dX1_fitOf_16 rfl (lv_at hl 3 rfl) ?_
      refine lv_iload hx hb dX1_fitOf_17 (lv_at hl 0 rfl) ?_
      refine mk_ciS hAt hK (P := bP D ad ρ σ nw n) hP hA hS (As := [.int a, .int (nI i5)]) (rest := [.ref (ad 1), .int (mk_fitR (σ 0) a b i5)]) (b_letterOf l D A (bP D ad ρ σ nw n) a i5) (va_cwS 2 hts (lw_S q281 q282 q37 q283) rfl rfl rfl cdX1_letterOf ⟨Nat.le_of_ble_eq_true rfl, Nat.le_of_ble_eq_true rfl⟩) rfl hl.1 rfl (Nat.le_of_ble_eq_true rfl) dX1_fitOf_19 ⟨Nat.le_refl _, Nat.le_refl _⟩ (fun r H locs hq hS => ?_)
      obtain ⟨rfl, hP⟩ := hq
      refine xk_aaldT hAt hK (btab hP) (mk_ln a i5) (ad (2 + mk_ln a i5)) (by omega) (by decide) rfl dX1_fitOf_22 ?_
      refine lv_iload_n hx hb dX1_fitOf_23 rfl (lv_at hl 4 rfl) ?_
      refine lv_iload hx hb dX1_fitOf_24 (lv_at hl 0 rfl) ?_
      refine mk_ciS hAt hK (P := bP D ad ρ σ nw n) hP hA hS (As := [.int b, .int (nI i5)]) (rest := [.ref (ad (2 + mk_ln a i5)), .int (mk_fitR (σ 0) a b i5)]) (b_letterOf l D A (bP D ad ρ σ nw n) b i5) (va_cwS 2 hts (lw_S q281 q282 q37 q283) rfl rfl rfl cdX1_letterOf ⟨Nat.le_of_ble_eq_true rfl, Nat.le_of_ble_eq_true rfl⟩) rfl hl.1 rfl (Nat.le_of_ble_eq_true rfl) dX1_fitOf_26 ⟨Nat.le_refl _, Nat.le_refl _⟩ (fun r H locs hq hS => ?_)
      obtain ⟨rfl, hP⟩ := hq
      refine xk_ialdO hAt hK (brow hP (mk_ln a i5) (by omega)) (mk_ln b i5) (by omega) (by decide) dX1_fitOf_29 ?_
      refine xk_to (y := σ 0 (4 * mk_ln a i5 + mk_ln b i5)) rfl ?_
      refine lv_iadd hx hb dX1_fitOf_30 ?_
      refine lv_istore_n (lv' := [(3, .int ((mk_fitR (σ 0) a b i5) + (σ 0 (4 * mk_ln a i5 + mk_ln b i5)))), (4, .int (nI i5)), (0, .ref (ad 0)), (1, .int a), (2, .int b)]) hx hb dX1_fitOf_31 rfl hl (by decide) rfl (fun ls hl => ?_)
      refine lv_iinc (v := nI (i5 + 1)) (lv' := [(4, .int (nI (i5 + 1))), (3, .int ((mk_fitR (σ 0) a b i5) + (σ 0 (4 * mk_ln a i5 + mk_ln b i5)))), (0, .ref (ad 0)), (1, .int a), (2, .int b)]) hx hb dX1_fitOf_32 hl (k := 1) rfl (xk_inc i5) (by decide) rfl (fun ls hl => ?_)
      refine lv_goto (tgt := 5) hx hb dX1_fitOf_35 (by decide) ?_
      exact ih5 (i5 + 1) (by omega) (by omega)  _ _ _ ((mk_fitR (σ 0) a b i5) + (σ 0 (4 * mk_ln a i5 + mk_ln b i5))) (rfl) hP hS (lv_sub hl [0, 1, 2, 3, 4] rfl)
  exact L5 (4 + 1) 0 (by omega) (by omega)  _ _ _ 0 (rfl) hP hS (lv_sub hl [0, 1, 2, 3, 4] rfl)
set_option maxHeartbeats 4000000 in
theorem b_touches (l : Launch) (D : xk_G) (A : Nat → Prop) (ad : Nat → Nat) (ρ : Nat) (σ : Nat → Nat → Int32) (nw : Nat → Int32) (n : Nat → Nat) (a b : Int32) : Met l yX1_touches (ws_ yX1_touches cX1_touches 3 (some .boolean)) (xk_R 2 45) (xk_Pre D A (bP D ad ρ σ nw n) [.ref (ad 0), .int a, .int b]) (xk_Pi A (fun r H => r = xk_b (mk_tch σ a b) ∧ bP D ad ρ σ nw n H)) 0 0 A := by
  refine xk_startZ (by decide +kernel) (Nat.le_of_ble_eq_true rfl) (fun r H h => by rw [h.1]; exact xk_b01 _) ?_
  intro p e s m args below meth c Q hAt hin hK hA hP hR ls hl
  obtain ⟨hx, hb, hml, hown, hts⟩ := id hAt
  have hl : lv_has ls 3 [(0, .ref (ad 0)), (1, .int a), (2, .int b)] := hl
  have hS : va_S A s.heap s.heap [] := va_S.rf
  refine lv_aload_n hx hb dX1_touches_0 rfl (lv_at hl 0 rfl) ?_
  refine lv_iload_n hx hb dX1_touches_1 rfl (lv_at hl 1 rfl) ?_
  refine lv_iload_n hx hb dX1_touches_2 rfl (lv_at hl 2 rfl) ?_
  refine xk_ciV hAt hK (P := bP D ad ρ σ nw n) hP hA hS (xk_recv (q := (RX1, TX1, 6)) hK (b0 hP) rfl) (As := [.int a, .int b]) (rest := []) (b_fitOf l D A ad ρ σ nw n a b) (cwV 2 hts (lw_V q277 q279 qs3 q37 q280) rfl rfl rfl cdX1_fitOf ⟨Nat.le_of_ble_eq_true rfl, Nat.le_of_ble_eq_true rfl⟩) rfl hl.1 rfl (Nat.le_of_ble_eq_true rfl) dX1_touches_3 ⟨Nat.le_refl _, Nat.le_refl _⟩ (fun r H locs hq hS => ?_)
  obtain ⟨rfl, hP⟩ := hq
  refine lv_aload_n hx hb dX1_touches_6 rfl (lv_at hl 0 rfl) ?_
  refine xk_getO hAt hK (b0 hP) (C := RX1) (T := TX1) (N := 6) rfl 1 (by decide) (v := .ref (ad 6)) rfl (hts _ q136) (fun _ h => h) in_X1 dX1_touches_7 ?_
  refine lv_iconst (v := 0) hx hb dX1_touches_10 (by decide) ?_
  refine xk_ialdO hAt hK (bmk hP) 0 (by omega) (by decide) dX1_touches_11 ?_
  have J20_2 : ∀ (H : Heap) (locs : List Loc) (ls : Array Slot) (t0 : Int32), t0 = xk_b (¬ (mk_fit (σ 0) a b < σ 1 0)) → bP D ad ρ σ nw n H → va_S A s.heap H locs → lv_has ls 3 [(0, .ref (ad 0)), (1, .int a), (2, .int b)] → W p l e (xk_R 2 45) s m args below meth c H locs 0 0 Q (F0 m 20 ls [.int t0]) := by
    intro H locs ls t0 et0 hP hS hl
    subst et0
    exact hR _ _ _ _ _ dX1_touches_20 (⟨rfl, hP⟩) hS
  refine lv_icmp_lt (tgt := 19) hx hb dX1_touches_12 (by decide) (fun c_1 => ?_) (fun c_1 => ?_)
  · skip
    refine lv_iconst (v := 0) hx hb dX1_touches_19 (by decide) ?_
    exact J20_2 _ _ _ 0 ((if_neg (fun h => h c_1)).symm) hP hS (lv_sub hl [0, 1, 2] rfl)
  refine lv_iconst (v := 1) hx hb dX1_touches_15 (by decide) ?_
  refine lv_goto (tgt := 20) hx hb dX1_touches_16 (by decide) ?_
  exact J20_2 _ _ _ 1 ((if_pos c_1).symm) hP hS (lv_sub hl [0, 1, 2] rfl)
set_option maxHeartbeats 4000000 in
theorem b_nearnessOf (l : Launch) (D : xk_G) (A : Nat → Prop) (ad : Nat → Nat) (ρ : Nat) (σ : Nat → Nat → Int32) (nw : Nat → Int32) (n : Nat → Nat) (h0m : n 0 ≤ 8) (a : Int32) : Met l yX1_nearnessOf (ws_ yX1_nearnessOf cX1_nearnessOf 4 (some .int)) (xk_R 3 64) (xk_Pre D A (bP D ad ρ σ nw n) [.ref (ad 0), .int a]) (xk_Pi A (fun r H => r = mk_near σ n a ∧ bP D ad ρ σ nw n H)) 0 0 A := by
  refine xk_startI (by decide +kernel) (Nat.le_of_ble_eq_true rfl) ?_
  intro p e s m args below meth c Q hAt hin hK hA hP hR ls hl
  obtain ⟨hx, hb, hml, hown, hts⟩ := id hAt
  have hl : lv_has ls 4 [(0, .ref (ad 0)), (1, .int a)] := hl
  have hS : va_S A s.heap s.heap [] := va_S.rf
  refine lv_iconst (v := 0) hx hb dX1_nearnessOf_0 (by decide) ?_
  refine lv_istore_n (lv' := [(2, .int 0), (0, .ref (ad 0)), (1, .int a)]) hx hb dX1_nearnessOf_1 rfl hl (by decide) rfl (fun ls hl => ?_)
  refine lv_iconst (v := 0) hx hb dX1_nearnessOf_2 (by decide) ?_
  refine lv_istore_n (lv' := [(3, .int 0), (2, .int 0), (0, .ref (ad 0)), (1, .int a)]) hx hb dX1_nearnessOf_3 rfl hl (by decide) rfl (fun ls hl => ?_)
  have L4 : ∀ (fu i4 : Nat), n 0 + 1 ≤ i4 + fu → i4 ≤ n 0 → ∀ (H : Heap) (locs : List Loc) (ls : Array Slot) (v2 : Int32), v2 = mk_nearR σ a i4 → bP D ad ρ σ nw n H → va_S A s.heap H locs → lv_has ls 4 [(3, .int (nI i4)), (2, .int v2), (0, .ref (ad 0)), (1, .int a)] → W p l e (xk_R 3 64) s m args below meth c H locs 0 0 Q (F0 m 4 ls []) := by
    intro fu
    induction fu with
    | zero => intro i4 h4a h4b; exact absurd h4a (by omega)
    | succ fu ih4 =>
      intro i4 h4a h4b  H locs ls v2 ev2 hP hS hl
      subst ev2
      refine lv_iload_n hx hb dX1_nearnessOf_4 rfl (lv_at hl 0 rfl) ?_
      refine lv_aload_n hx hb dX1_nearnessOf_5 rfl (lv_at hl 2 rfl) ?_
      refine xk_getO hAt hK (b0 hP) (C := RX1) (T := TX1) (N := 6) rfl 2 (by decide) (v := .ref (ad 7)) rfl (hts _ q138) (fun _ h => h) in_X1 dX1_nearnessOf_6 ?_
      refine xk_ciF hAt hK (P := bP D ad ρ σ nw n) hP hA hS (xk_recvL hK (bow hP)) (As := []) (rest := [.int (nI i4)]) (al_size l D A (bP D ad ρ σ nw n) (ad 7) (ad 10) (n 0) (fun j => ad (20 + j)) (fun _ h => bow h)) (va_cwF 0 hts (xk_lwF q236 q240 q242 q40 q244) rfl rfl rfl hK.2.2.1 (by decide +kernel) ⟨Nat.le_of_ble_eq_true rfl, Nat.le_of_ble_eq_true rfl⟩) rfl hl.1 rfl (Nat.le_of_ble_eq_true rfl) dX1_nearnessOf_9 ⟨Nat.le_refl _, Nat.le_refl _⟩ (fun r H locs hq hS => ?_)
      obtain ⟨rfl, hP⟩ := hq
      refine mk_ge (tgt := 49) (a := i4) (b := n 0) hx hb (by omega) (by omega) dX1_nearnessOf_14 (by decide) (fun c_1 => ?_) (fun c_1 => ?_)
      · skip
        obtain rfl : i4 = n 0 := by omega
        refine lv_iload_n hx hb dX1_nearnessOf_49 rfl (lv_at hl 1 rfl) ?_
        exact hR _ _ _ _ _ dX1_nearnessOf_50 (⟨rfl, hP⟩) hS
      refine lv_aload_n hx hb dX1_nearnessOf_17 rfl (lv_at hl 2 rfl) ?_
      refine lv_iload_n hx hb dX1_nearnessOf_18 rfl (lv_at hl 3 rfl) ?_
      refine lv_aload_n hx hb dX1_nearnessOf_19 rfl (lv_at hl 2 rfl) ?_
      refine xk_getO hAt hK (b0 hP) (C := RX1) (T := TX1) (N := 6) rfl 2 (by decide) (v := .ref (ad 7)) rfl (hts _ q138) (fun _ h => h) in_X1 dX1_nearnessOf_20 ?_
      refine lv_iload_n hx hb dX1_nearnessOf_23 rfl (lv_at hl 0 rfl) ?_
      refine xk_crF hAt hK (P := bP D ad ρ σ nw n) hP hA hS (xk_recvL hK (bow hP)) (As := [.int (nI i4)]) (rest := [.int a, .ref (ad 0)]) (al_get l D A (bP D ad ρ σ nw n) (ad 7) (ad 10) (n 0) (fun j => ad (20 + j)) (fun _ h => bow h) i4 (by omega) (by omega)) (va_cwF 1 hts (xk_lwF q250 q253 q255 q40 q257) rfl rfl rfl hK.2.2.2.1 (by decide +kernel) ⟨Nat.le_of_ble_eq_true rfl, Nat.le_of_ble_eq_true rfl⟩) rfl hl.1 rfl (Nat.le_of_ble_eq_true rfl) dX1_nearnessOf_24 ⟨Nat.le_refl _, Nat.le_refl _⟩ (fun r H locs hq hS => ?_)
      have hq : r = ad (20 + i4) ∧ bP D ad ρ σ nw n H := hq
      obtain ⟨rfl, hP⟩ := hq
      refine xk_castX hAt hK (bxo hP i4 (by omega)) (hts _ q268) dX1_nearnessOf_29 ?_
      refine xk_ciV hAt hK (P := bP D ad ρ σ nw n) hP hA hS (xk_recvX hK (bxo hP i4 (by omega))) (As := []) (rest := [.int a, .ref (ad 0)]) (in_val l D A (bP D ad ρ σ nw n) (ad (20 + i4)) (σ 2 i4) (fun _ h => bxo h i4 (by omega))) (cwV 0 hts (lw_V q269 q270 q271 q49 q272) rfl rfl rfl cdJ9_intValue ⟨Nat.le_of_ble_eq_true rfl, Nat.le_of_ble_eq_true rfl⟩) rfl hl.1 rfl (Nat.le_of_ble_eq_true rfl) dX1_nearnessOf_32 ⟨Nat.le_refl _, Nat.le_refl _⟩ (fun r H locs hq hS => ?_)
      obtain ⟨rfl, hP⟩ := hq
      refine xk_ciV hAt hK (P := bP D ad ρ σ nw n) hP hA hS (xk_recv (q := (RX1, TX1, 6)) hK (b0 hP) rfl) (As := [.int a, .int (σ 2 i4)]) (rest := []) (b_fitOf l D A ad ρ σ nw n a (σ 2 i4)) (cwV 2 hts (lw_V q277 q279 qs3 q37 q280) rfl rfl rfl cdX1_fitOf ⟨Nat.le_of_ble_eq_true rfl, Nat.le_of_ble_eq_true rfl⟩) rfl hl.1 rfl (Nat.le_of_ble_eq_true rfl) dX1_nearnessOf_35 ⟨Nat.le_refl _, Nat.le_refl _⟩ (fun r H locs hq hS => ?_)
      obtain ⟨rfl, hP⟩ := hq
      refine lv_iload_n hx hb dX1_nearnessOf_38 rfl (lv_at hl 1 rfl) ?_
      refine va_mmax hx hb (hml.trans hl.1.symm) hown (hts _ q292) (hts _ q293) (hts _ q52) (hts _ q294) (Nat.le_of_ble_eq_true rfl) (Nat.le_of_ble_eq_true rfl) (Nat.le_refl _) (Nat.le_refl _) dX1_nearnessOf_39 ?_
      refine lv_istore_n (lv' := [(2, .int (if mk_fit (σ 0) a (σ 2 i4) < mk_nearR σ a i4 then mk_nearR σ a i4 else mk_fit (σ 0) a (σ 2 i4))), (3, .int (nI i4)), (0, .ref (ad 0)), (1, .int a)]) hx hb dX1_nearnessOf_42 rfl hl (by decide) rfl (fun ls hl => ?_)
      refine lv_iinc (v := nI (i4 + 1)) (lv' := [(3, .int (nI (i4 + 1))), (2, .int (if mk_fit (σ 0) a (σ 2 i4) < mk_nearR σ a i4 then mk_nearR σ a i4 else mk_fit (σ 0) a (σ 2 i4))), (0, .ref (ad 0)), (1, .int a)]) hx hb dX1_nearnessOf_43 hl (k := 1) rfl (xk_inc i4) (by decide) rfl (fun ls hl => ?_)
      refine lv_goto (tgt := 4) hx hb dX1_nearnessOf_46 (by decide) ?_
      exact ih4 (i4 + 1) (by omega) (by omega)  _ _ _ (if mk_fit (σ 0) a (σ 2 i4) < mk_nearR σ a i4 then mk_nearR σ a i4 else mk_fit (σ 0) a (σ 2 i4)) (xk_mx _ _) hP hS (lv_sub hl [0, 1, 2, 3] rfl)
  exact L4 (n 0 + 1) 0 (by omega) (by omega)  _ _ _ 0 (rfl) hP hS (lv_sub hl [0, 1, 2, 3] rfl)
set_option maxHeartbeats 4000000 in
theorem b_lockOf (l : Launch) (D : xk_G) (A : Nat → Prop) (ad : Nat → Nat) (ρ : Nat) (σ : Nat → Nat → Int32) (nw : Nat → Int32) (n : Nat → Nat) (h1m : n 1 ≤ 4) (h2m : n 2 ≤ 4) (a b : Nat) (ha : a < n 1) (hb2 : b < n 2) (z : Int32) : Met l yX1_lockOf (ws_ yX1_lockOf cX1_lockOf 4 (some .int)) (xk_R 3 64) (xk_Pre D A (bP D ad ρ σ nw n) [.ref (ad 0), .int (nI a), .int (nI b), .int z]) (xk_Pi A (fun r H => r = bk_lock σ a b z ∧ bP D ad ρ σ nw n H)) 0 0 A := by
  refine xk_startI (by decide +kernel) (Nat.le_of_ble_eq_true rfl) ?_
  intro p e s m args below meth c Q hAt hin hK hA hP hR ls hl
  obtain ⟨hx, hb, hml, hown, hts⟩ := id hAt
  have hl : lv_has ls 4 [(0, .ref (ad 0)), (1, .int (nI a)), (2, .int (nI b)), (3, .int z)] := hl
  have hS : va_S A s.heap s.heap [] := va_S.rf
  refine lv_aload_n hx hb dX1_lockOf_0 rfl (lv_at hl 0 rfl) ?_
  refine xk_getO hAt hK (b0 hP) (C := RX1) (T := TX1) (N := 6) rfl 3 (by decide) (v := .ref (ad 8)) rfl (hts _ q140) (fun _ h => h) in_X1 dX1_lockOf_1 ?_
  refine lv_iload_n hx hb dX1_lockOf_4 rfl (lv_at hl 1 rfl) ?_
  refine xk_crF hAt hK (P := bP D ad ρ σ nw n) hP hA hS (xk_recvL hK (bsg hP)) (As := [.int (nI a)]) (rest := []) (al_get l D A (bP D ad ρ σ nw n) (ad 8) (ad 11) (n 1) (fun j => ad (30 + j)) (fun _ h => bsg h) a (by omega) (by omega)) (va_cwF 1 hts (xk_lwF q250 q253 q255 q40 q257) rfl rfl rfl hK.2.2.2.1 (by decide +kernel) ⟨Nat.le_of_ble_eq_true rfl, Nat.le_of_ble_eq_true rfl⟩) rfl hl.1 rfl (Nat.le_of_ble_eq_true rfl) dX1_lockOf_5 ⟨Nat.le_refl _, Nat.le_refl _⟩ (fun r H locs hq hS => ?_)
  have hq : r = ad (30 + a) ∧ bP D ad ρ σ nw n H := hq
  obtain ⟨rfl, hP⟩ := hq
  refine xk_castX hAt hK (bxs hP a (by omega)) (hts _ q268) dX1_lockOf_10 ?_
  refine xk_ciV hAt hK (P := bP D ad ρ σ nw n) hP hA hS (xk_recvX hK (bxs hP a (by omega))) (As := []) (rest := []) (in_val l D A (bP D ad ρ σ nw n) (ad (30 + a)) (((σ 3 a) + (4 * (σ 4 a)))) (fun _ h => bxs h a (by omega))) (cwV 0 hts (lw_V q269 q270 q271 q49 q272) rfl rfl rfl cdJ9_intValue ⟨Nat.le_of_ble_eq_true rfl, Nat.le_of_ble_eq_true rfl⟩) rfl hl.1 rfl (Nat.le_of_ble_eq_true rfl) dX1_lockOf_13 ⟨Nat.le_refl _, Nat.le_refl _⟩ (fun r H locs hq hS => ?_)
  obtain ⟨rfl, hP⟩ := hq
  refine lv_aload_n hx hb dX1_lockOf_16 rfl (lv_at hl 0 rfl) ?_
  refine xk_getO hAt hK (b0 hP) (C := RX1) (T := TX1) (N := 6) rfl 4 (by decide) (v := .ref (ad 9)) rfl (hts _ q141) (fun _ h => h) in_X1 dX1_lockOf_17 ?_
  refine lv_iload_n hx hb dX1_lockOf_20 rfl (lv_at hl 2 rfl) ?_
  refine xk_crF hAt hK (P := bP D ad ρ σ nw n) hP hA hS (xk_recvL hK (bjo hP)) (As := [.int (nI b)]) (rest := [.int ((σ 3 a) + (4 * (σ 4 a)))]) (al_get l D A (bP D ad ρ σ nw n) (ad 9) (ad 12) (n 2) (fun j => ad (40 + j)) (fun _ h => bjo h) b (by omega) (by omega)) (va_cwF 1 hts (xk_lwF q250 q253 q255 q40 q257) rfl rfl rfl hK.2.2.2.1 (by decide +kernel) ⟨Nat.le_of_ble_eq_true rfl, Nat.le_of_ble_eq_true rfl⟩) rfl hl.1 rfl (Nat.le_of_ble_eq_true rfl) dX1_lockOf_21 ⟨Nat.le_refl _, Nat.le_refl _⟩ (fun r H locs hq hS => ?_)
  have hq : r = ad (40 + b) ∧ bP D ad ρ σ nw n H := hq
  obtain ⟨rfl, hP⟩ := hq
  refine xk_castX hAt hK (bxj hP b (by omega)) (hts _ q268) dX1_lockOf_26 ?_
  refine xk_ciV hAt hK (P := bP D ad ρ σ nw n) hP hA hS (xk_recvX hK (bxj hP b (by omega))) (As := []) (rest := [.int ((σ 3 a) + (4 * (σ 4 a)))]) (in_val l D A (bP D ad ρ σ nw n) (ad (40 + b)) (σ 5 b) (fun _ h => bxj h b (by omega))) (cwV 0 hts (lw_V q269 q270 q271 q49 q272) rfl rfl rfl cdJ9_intValue ⟨Nat.le_of_ble_eq_true rfl, Nat.le_of_ble_eq_true rfl⟩) rfl hl.1 rfl (Nat.le_of_ble_eq_true rfl) dX1_lockOf_29 ⟨Nat.le_refl _, Nat.le_refl _⟩ (fun r H locs hq hS => ?_)
  obtain ⟨rfl, hP⟩ := hq
  refine lv_iconst (v := 4) hx hb dX1_lockOf_32 (by decide) ?_
  refine lv_ishl hx hb dX1_lockOf_33 ?_
  refine lv_ior hx hb dX1_lockOf_34 ?_
  refine lv_iload_n hx hb dX1_lockOf_35 rfl (lv_at hl 3 rfl) ?_
  refine lv_bipush (v := 6) hx hb dX1_lockOf_36 (by decide) ?_
  refine lv_ishl hx hb dX1_lockOf_38 ?_
  refine lv_ior hx hb dX1_lockOf_39 ?_
  exact hR _ _ _ _ _ dX1_lockOf_40 (⟨rfl, hP⟩) hS
set_option maxHeartbeats 4000000 in
theorem b_schooled (l : Launch) (D : xk_G) (A : Nat → Prop) (ad : Nat → Nat) (ρ : Nat) (σ : Nat → Nat → Int32) (nw : Nat → Int32) (n : Nat → Nat) (h0m : n 0 ≤ 8) (a : Int32) : Met l yX1_schooled (ws_ yX1_schooled cX1_schooled 3 (some .int)) (xk_R 4 87) (xk_Pre D A (bP D ad ρ σ nw n) [.ref (ad 0), .int a]) (xk_Pi A (fun r H => r = mk_school σ (mk_near σ n a) ∧ bP D ad ρ σ nw n H)) 0 0 A := by
  refine xk_startI (by decide +kernel) (Nat.le_of_ble_eq_true rfl) ?_
  intro p e s m args below meth c Q hAt hin hK hA hP hR ls hl
  obtain ⟨hx, hb, hml, hown, hts⟩ := id hAt
  have hl : lv_has ls 3 [(0, .ref (ad 0)), (1, .int a)] := hl
  have hS : va_S A s.heap s.heap [] := va_S.rf
  refine lv_aload_n hx hb dX1_schooled_0 rfl (lv_at hl 0 rfl) ?_
  refine lv_iload_n hx hb dX1_schooled_1 rfl (lv_at hl 1 rfl) ?_
  refine xk_ciV hAt hK (P := bP D ad ρ σ nw n) hP hA hS (xk_recv (q := (RX1, TX1, 6)) hK (b0 hP) rfl) (As := [.int a]) (rest := []) (b_nearnessOf l D A ad ρ σ nw n (by assumption) a) (cwV 1 hts (lw_V q288 q290 qs5 q37 q291) rfl rfl rfl cdX1_nearnessOf ⟨Nat.le_of_ble_eq_true rfl, Nat.le_of_ble_eq_true rfl⟩) rfl hl.1 rfl (Nat.le_of_ble_eq_true rfl) dX1_schooled_2 ⟨Nat.le_refl _, Nat.le_refl _⟩ (fun r H locs hq hS => ?_)
  obtain ⟨rfl, hP⟩ := hq
  refine lv_istore_n (lv' := [(2, .int (mk_near σ n a)), (0, .ref (ad 0)), (1, .int a)]) hx hb dX1_schooled_5 rfl hl (by decide) rfl (fun ls hl => ?_)
  refine lv_iload_n hx hb dX1_schooled_6 rfl (lv_at hl 0 rfl) ?_
  refine lv_aload_n hx hb dX1_schooled_7 rfl (lv_at hl 1 rfl) ?_
  refine xk_getO hAt hK (b0 hP) (C := RX1) (T := TX1) (N := 6) rfl 1 (by decide) (v := .ref (ad 6)) rfl (hts _ q136) (fun _ h => h) in_X1 dX1_schooled_8 ?_
  refine lv_iconst (v := 1) hx hb dX1_schooled_11 (by decide) ?_
  refine xk_ialdO hAt hK (bmk hP) 1 (by omega) (by decide) dX1_schooled_12 ?_
  have J35_2 : ∀ (H : Heap) (locs : List Loc) (ls : Array Slot) (t0 : Int32), t0 = (if mk_near σ n a < σ 1 1 then (if σ 1 2 ≤ mk_near σ n a then 2 else 1) else 0) → bP D ad ρ σ nw n H → va_S A s.heap H locs → lv_has ls 3 [(2, .int (mk_near σ n a)), (0, .ref (ad 0)), (1, .int a)] → W p l e (xk_R 4 87) s m args below meth c H locs 0 0 Q (F0 m 35 ls [.int t0]) := by
    intro H locs ls t0 et0 hP hS hl
    subst et0
    exact hR _ _ _ _ _ dX1_schooled_35 (⟨rfl, hP⟩) hS
  refine lv_icmp_lt (tgt := 20) hx hb dX1_schooled_13 (by decide) (fun c_1 => ?_) (fun c_1 => ?_)
  · skip
    refine lv_iload_n hx hb dX1_schooled_20 rfl (lv_at hl 0 rfl) ?_
    refine lv_aload_n hx hb dX1_schooled_21 rfl (lv_at hl 1 rfl) ?_
    refine xk_getO hAt hK (b0 hP) (C := RX1) (T := TX1) (N := 6) rfl 1 (by decide) (v := .ref (ad 6)) rfl (hts _ q136) (fun _ h => h) in_X1 dX1_schooled_22 ?_
    refine lv_iconst (v := 2) hx hb dX1_schooled_25 (by decide) ?_
    refine xk_ialdO hAt hK (bmk hP) 2 (by omega) (by decide) dX1_schooled_26 ?_
    refine lv_icmp_ge (tgt := 34) hx hb dX1_schooled_27 (by decide) (fun c_3 => ?_) (fun c_3 => ?_)
    · skip
      refine lv_iconst (v := 2) hx hb dX1_schooled_34 (by decide) ?_
      exact J35_2 _ _ _ 2 (((if_pos c_3).symm).trans (if_pos c_1).symm) hP hS (lv_sub hl [0, 1, 2] rfl)
    refine lv_iconst (v := 1) hx hb dX1_schooled_30 (by decide) ?_
    refine lv_goto (tgt := 35) hx hb dX1_schooled_31 (by decide) ?_
    exact J35_2 _ _ _ 1 (((if_neg c_3).symm).trans (if_pos c_1).symm) hP hS (lv_sub hl [0, 1, 2] rfl)
  refine lv_iconst (v := 0) hx hb dX1_schooled_16 (by decide) ?_
  refine lv_goto (tgt := 35) hx hb dX1_schooled_17 (by decide) ?_
  exact J35_2 _ _ _ 0 ((if_neg c_1).symm) hP hS (lv_sub hl [0, 1, 2] rfl)
set_option maxHeartbeats 4000000 in
theorem b_isC (l : Launch) (D : xk_G) (A : Nat → Prop) (ad : Nat → Nat) (ρ : Nat) (σ : Nat → Nat → Int32) (nw : Nat → Int32) (n : Nat → Nat) (h3m : n 3 ≤ 40) (k : Nat) (hk : k < n 3) (x y : Int32) : Met l yX4_is (ws_ yX4_is cX4_is 3 (some .boolean)) (xk_R 0 0) (xk_Pre D A (bP D ad ρ σ nw n) [.ref (ad (120 + k)), .int x, .int y]) (xk_Pi A (fun r H => r = xk_b (bk_is σ nw k x y) ∧ bP D ad ρ σ nw n H)) 0 0 A := by
  refine xk_startZ (by decide +kernel) (Nat.le_of_ble_eq_true rfl) (fun r H h => by rw [h.1]; exact xk_b01 _) ?_
  intro p e s m args below meth c Q hAt hin hK hA hP hR ls hl
  obtain ⟨hx, hb, hml, hown, hts⟩ := id hAt
  have hl : lv_has ls 3 [(0, .ref (ad (120 + k))), (1, .int x), (2, .int y)] := hl
  have hS : va_S A s.heap s.heap [] := va_S.rf
  refine lv_aload_n hx hb dX4_is_0 rfl (lv_at hl 0 rfl) ?_
  refine xk_getO hAt hK (bcell hP k (by omega)) (C := RX4) (T := TX4) (N := 7) rfl 2 (by decide) (v := .int (σ 7 k)) rfl (hts _ q535) (fun _ h => h) in_X4 dX4_is_1 ?_
  refine lv_iload_n hx hb dX4_is_4 rfl (lv_at hl 1 rfl) ?_
  have J21_2 : ∀ (H : Heap) (locs : List Loc) (ls : Array Slot) (t0 : Int32), t0 = xk_b (σ 7 k = x ∧ nw k = y) → bP D ad ρ σ nw n H → va_S A s.heap H locs → lv_has ls 3 [(0, .ref (ad (120 + k))), (1, .int x), (2, .int y)] → W p l e (xk_R 0 0) s m args below meth c H locs 0 0 Q (F0 m 21 ls [.int t0]) := by
    intro H locs ls t0 et0 hP hS hl
    subst et0
    exact hR _ _ _ _ _ dX4_is_21 (⟨rfl, hP⟩) hS
  refine lv_icmp_ne (tgt := 20) hx hb dX4_is_5 (by decide) (fun c_1 => ?_) (fun c_1 => ?_)
  · skip
    refine lv_iconst (v := 0) hx hb dX4_is_20 (by decide) ?_
    exact J21_2 _ _ _ 0 ((if_neg (fun h => c_1 h.1)).symm) hP hS (lv_sub hl [0, 1, 2] rfl)
  refine lv_aload_n hx hb dX4_is_8 rfl (lv_at hl 0 rfl) ?_
  refine xk_getO hAt hK (bcell hP k (by omega)) (C := RX4) (T := TX4) (N := 7) rfl 4 (by decide) (v := .int (nw k)) rfl (hts _ q540) (fun _ h => h) in_X4 dX4_is_9 ?_
  refine lv_iload_n hx hb dX4_is_12 rfl (lv_at hl 2 rfl) ?_
  refine lv_icmp_ne (tgt := 20) hx hb dX4_is_13 (by decide) (fun c_3 => ?_) (fun c_3 => ?_)
  · skip
    refine lv_iconst (v := 0) hx hb dX4_is_20 (by decide) ?_
    exact J21_2 _ _ _ 0 ((if_neg (fun h => c_3 h.2)).symm) hP hS (lv_sub hl [0, 1, 2] rfl)
  refine lv_iconst (v := 1) hx hb dX4_is_16 (by decide) ?_
  refine lv_goto (tgt := 21) hx hb dX4_is_17 (by decide) ?_
  exact J21_2 _ _ _ 1 ((if_pos ⟨c_1, c_3⟩).symm) hP hS (lv_sub hl [0, 1, 2] rfl)
set_option maxHeartbeats 4000000 in
theorem b_isLostC (l : Launch) (D : xk_G) (A : Nat → Prop) (ad : Nat → Nat) (ρ : Nat) (σ : Nat → Nat → Int32) (nw : Nat → Int32) (n : Nat → Nat) (h3m : n 3 ≤ 40) (k : Nat) (hk : k < n 3) : Met l yX4_isLost (ws_ yX4_isLost cX4_isLost 1 (some .boolean)) (xk_R 0 0) (xk_Pre D A (bP D ad ρ σ nw n) [.ref (ad (120 + k))]) (xk_Pi A (fun r H => r = xk_b (bk_lost nw k) ∧ bP D ad ρ σ nw n H)) 0 0 A := by
  refine xk_startZ (by decide +kernel) (Nat.le_of_ble_eq_true rfl) (fun r H h => by rw [h.1]; exact xk_b01 _) ?_
  intro p e s m args below meth c Q hAt hin hK hA hP hR ls hl
  obtain ⟨hx, hb, hml, hown, hts⟩ := id hAt
  have hl : lv_has ls 1 [(0, .ref (ad (120 + k)))] := hl
  have hS : va_S A s.heap s.heap [] := va_S.rf
  refine lv_aload_n hx hb dX4_isLost_0 rfl (lv_at hl 0 rfl) ?_
  refine xk_getO hAt hK (bcell hP k (by omega)) (C := RX4) (T := TX4) (N := 7) rfl 4 (by decide) (v := .int (nw k)) rfl (hts _ q540) (fun _ h => h) in_X4 dX4_isLost_1 ?_
  have J20_2 : ∀ (H : Heap) (locs : List Loc) (ls : Array Slot) (t0 : Int32), t0 = xk_b (nw k = 0 ∨ nw k = 1) → bP D ad ρ σ nw n H → va_S A s.heap H locs → lv_has ls 1 [(0, .ref (ad (120 + k)))] → W p l e (xk_R 0 0) s m args below meth c H locs 0 0 Q (F0 m 20 ls [.int t0]) := by
    intro H locs ls t0 et0 hP hS hl
    subst et0
    exact hR _ _ _ _ _ dX4_isLost_20 (⟨rfl, hP⟩) hS
  refine lv_if_eq (tgt := 15) hx hb dX4_isLost_4 (by decide) (fun c_1 => ?_) (fun c_1 => ?_)
  · skip
    refine lv_iconst (v := 1) hx hb dX4_isLost_15 (by decide) ?_
    refine lv_goto (tgt := 20) hx hb dX4_isLost_16 (by decide) ?_
    exact J20_2 _ _ _ 1 ((if_pos (Or.inl c_1)).symm) hP hS (lv_sub hl [0] rfl)
  refine lv_aload_n hx hb dX4_isLost_7 rfl (lv_at hl 0 rfl) ?_
  refine xk_getO hAt hK (bcell hP k (by omega)) (C := RX4) (T := TX4) (N := 7) rfl 4 (by decide) (v := .int (nw k)) rfl (hts _ q540) (fun _ h => h) in_X4 dX4_isLost_8 ?_
  refine lv_iconst (v := 1) hx hb dX4_isLost_11 (by decide) ?_
  refine lv_icmp_ne (tgt := 19) hx hb dX4_isLost_12 (by decide) (fun c_3 => ?_) (fun c_3 => ?_)
  · skip
    refine lv_iconst (v := 0) hx hb dX4_isLost_19 (by decide) ?_
    exact J20_2 _ _ _ 0 ((if_neg (fun h => h.elim (fun z => c_1 z) (fun z => c_3 z))).symm) hP hS (lv_sub hl [0] rfl)
  refine lv_iconst (v := 1) hx hb dX4_isLost_15 (by decide) ?_
  refine lv_goto (tgt := 20) hx hb dX4_isLost_16 (by decide) ?_
  exact J20_2 _ _ _ 1 ((if_pos (Or.inr c_3)).symm) hP hS (lv_sub hl [0] rfl)
set_option maxHeartbeats 4000000 in
theorem b_metByI (l : Launch) (D : xk_G) (A : Nat → Prop) (ad : Nat → Nat) (ρ : Nat) (σ : Nat → Nat → Int32) (nw : Nat → Int32) (n : Nat → Nat) (h3m : n 3 ≤ 40) (h4m : n 4 ≤ 8) (k : Nat) (hk : k < n 3) : Met l yX2_metBy (ws_ yX2_metBy cX2_metBy 7 (some .int)) (xk_R 3 67) (xk_Pre D A (bP D ad ρ σ nw n) [.ref (ad 100), .ref (ad (120 + k))]) (xk_Pi A (fun r H => r = mk_met σ nw n (σ 6 k) ∧ bP D ad ρ σ nw n H)) 0 0 A := by
  refine xk_startI (by decide +kernel) (Nat.le_of_ble_eq_true rfl) ?_
  intro p e s m args below meth c Q hAt hin hK hA hP hR ls hl
  obtain ⟨hx, hb, hml, hown, hts⟩ := id hAt
  have hl : lv_has ls 7 [(0, .ref (ad 100)), (1, .ref (ad (120 + k)))] := hl
  have hS : va_S A s.heap s.heap [] := va_S.rf
  refine lv_iconst (v := (-1)) hx hb dX2_metBy_0 (by decide) ?_
  refine lv_istore_n (lv' := [(2, .int (-1)), (0, .ref (ad 100)), (1, .ref (ad (120 + k)))]) hx hb dX2_metBy_1 rfl hl (by decide) rfl (fun ls hl => ?_)
  refine lv_iconst (v := 0) hx hb dX2_metBy_2 (by decide) ?_
  refine lv_istore_n (lv' := [(3, .int 0), (2, .int (-1)), (0, .ref (ad 100)), (1, .ref (ad (120 + k)))]) hx hb dX2_metBy_3 rfl hl (by decide) rfl (fun ls hl => ?_)
  have L4 : ∀ (fu i4 : Nat), n 4 + 1 ≤ i4 + fu → i4 ≤ n 4 → ∀ (H : Heap) (locs : List Loc) (ls : Array Slot) (v2 : Int32), v2 = mk_metR σ nw (σ 6 k) i4 → bP D ad ρ σ nw n H → va_S A s.heap H locs → lv_has ls 7 [(3, .int (nI i4)), (2, .int v2), (0, .ref (ad 100)), (1, .ref (ad (120 + k)))] → W p l e (xk_R 3 67) s m args below meth c H locs 0 0 Q (F0 m 4 ls []) := by
    intro fu
    induction fu with
    | zero => intro i4 h4a h4b; exact absurd h4a (by omega)
    | succ fu ih4 =>
      intro i4 h4a h4b  H locs ls v2 ev2 hP hS hl
      subst ev2
      refine lv_iload_n hx hb dX2_metBy_4 rfl (lv_at hl 0 rfl) ?_
      refine lv_aload_n hx hb dX2_metBy_5 rfl (lv_at hl 2 rfl) ?_
      refine xk_getO hAt hK (b100 hP) (C := RX2) (T := TX2) (N := 7) rfl 1 (by decide) (v := .ref (ad 102)) rfl (hts _ q111) (fun _ h => h) in_X2 dX2_metBy_6 ?_
      refine xk_ciF hAt hK (P := bP D ad ρ σ nw n) hP hA hS (xk_recvL hK (bvl hP)) (As := []) (rest := [.int (nI i4)]) (al_size l D A (bP D ad ρ σ nw n) (ad 102) (ad 105) (n 4) (fun j => ad (110 + j)) (fun _ h => bvl h)) (va_cwF 0 hts (xk_lwF q671 q240 q242 q40 q244) rfl rfl rfl hK.2.2.1 (by decide +kernel) ⟨Nat.le_of_ble_eq_true rfl, Nat.le_of_ble_eq_true rfl⟩) rfl hl.1 rfl (Nat.le_of_ble_eq_true rfl) dX2_metBy_9 ⟨Nat.le_refl _, Nat.le_refl _⟩ (fun r H locs hq hS => ?_)
      obtain ⟨rfl, hP⟩ := hq
      refine mk_ge (tgt := 146) (a := i4) (b := n 4) hx hb (by omega) (by omega) dX2_metBy_14 (by decide) (fun c_1 => ?_) (fun c_1 => ?_)
      · skip
        obtain rfl : i4 = n 4 := by omega
        refine lv_iload_n hx hb dX2_metBy_146 rfl (lv_at hl 1 rfl) ?_
        exact hR _ _ _ _ _ dX2_metBy_147 (⟨rfl, hP⟩) hS
      refine lv_aload_n hx hb dX2_metBy_17 rfl (lv_at hl 2 rfl) ?_
      refine xk_getO hAt hK (b100 hP) (C := RX2) (T := TX2) (N := 7) rfl 1 (by decide) (v := .ref (ad 102)) rfl (hts _ q111) (fun _ h => h) in_X2 dX2_metBy_18 ?_
      refine lv_iload_n hx hb dX2_metBy_21 rfl (lv_at hl 0 rfl) ?_
      refine xk_crF hAt hK (P := bP D ad ρ σ nw n) hP hA hS (xk_recvL hK (bvl hP)) (As := [.int (nI i4)]) (rest := []) (al_get l D A (bP D ad ρ σ nw n) (ad 102) (ad 105) (n 4) (fun j => ad (110 + j)) (fun _ h => bvl h) i4 (by omega) (by omega)) (va_cwF 1 hts (xk_lwF q673 q253 q255 q40 q257) rfl rfl rfl hK.2.2.2.1 (by decide +kernel) ⟨Nat.le_of_ble_eq_true rfl, Nat.le_of_ble_eq_true rfl⟩) rfl hl.1 rfl (Nat.le_of_ble_eq_true rfl) dX2_metBy_22 ⟨Nat.le_refl _, Nat.le_refl _⟩ (fun r H locs hq hS => ?_)
      have hq : r = ad (110 + i4) ∧ bP D ad ρ σ nw n H := hq
      obtain ⟨rfl, hP⟩ := hq
      refine xk_cast hAt hK (binv hP i4 (by omega)) rfl rfl (hts _ q674) dX2_metBy_27 ?_
      refine lv_astore (lv' := [(4, .ref (ad (110 + i4))), (3, .int (nI i4)), (2, .int (mk_metR σ nw (σ 6 k) i4)), (0, .ref (ad 100)), (1, .ref (ad (120 + k)))]) hx hb dX2_metBy_30 hl (by decide) rfl (fun ls hl => ?_)
      refine lv_aload hx hb dX2_metBy_32 (lv_at hl 0 rfl) ?_
      refine xk_getN hAt hK (binv hP i4 (by omega)) (C := RX5) (T := TX5) (N := 5) rfl 1 (by decide) (v := .int (nw (120 + i4))) rfl q605 (fun _ h => h) in_X5 dX2_metBy_34 ?_
      have J64_3 : ∀ (H : Heap) (locs : List Loc) (ls : Array Slot) (t0 : Int32), t0 = xk_b (¬ (nw (120 + i4) ≤ 0) ∧ mk_tch σ (σ 6 k) (σ 9 i4)) → bP D ad ρ σ nw n H → va_S A s.heap H locs → lv_has ls 7 [(4, .ref (ad (110 + i4))), (3, .int (nI i4)), (2, .int (mk_metR σ nw (σ 6 k) i4)), (0, .ref (ad 100)), (1, .ref (ad (120 + k)))] → W p l e (xk_R 3 67) s m args below meth c H locs 0 0 Q (F0 m 64 ls [.int t0]) := by
        intro H locs ls t0 et0 hP hS hl
        subst et0
        refine lv_istore (lv' := [(5, .int (xk_b (¬ (nw (120 + i4) ≤ 0) ∧ mk_tch σ (σ 6 k) (σ 9 i4)))), (4, .ref (ad (110 + i4))), (3, .int (nI i4)), (2, .int (mk_metR σ nw (σ 6 k) i4)), (0, .ref (ad 100)), (1, .ref (ad (120 + k)))]) hx hb dX2_metBy_64 hl (by decide) rfl (fun ls hl => ?_)
        refine lv_iload_n hx hb dX2_metBy_66 rfl (lv_at hl 3 rfl) ?_
        refine lv_iconst (v := (-1)) hx hb dX2_metBy_67 (by decide) ?_
        have J122_5 : ∀ (H : Heap) (locs : List Loc) (ls : Array Slot) (t0 : Int32), t0 = xk_b (mk_metR σ nw (σ 6 k) i4 = (-1) ∨ ¬ (mk_fit (σ 0) (σ 6 k) (σ 9 i4) ≤ mk_fit (σ 0) (σ 6 k) (σ 9 ((mk_metR σ nw (σ 6 k) i4).toNatClampNeg)))) → bP D ad ρ σ nw n H → va_S A s.heap H locs → lv_has ls 7 [(5, .int (xk_b (¬ (nw (120 + i4) ≤ 0) ∧ mk_tch σ (σ 6 k) (σ 9 i4)))), (4, .ref (ad (110 + i4))), (3, .int (nI i4)), (2, .int (mk_metR σ nw (σ 6 k) i4)), (0, .ref (ad 100)), (1, .ref (ad (120 + k)))] → W p l e (xk_R 3 67) s m args below meth c H locs 0 0 Q (F0 m 122 ls [.int t0]) := by
          intro H locs ls t0 et0 hP hS hl
          subst et0
          refine lv_istore (lv' := [(6, .int (xk_b (mk_metR σ nw (σ 6 k) i4 = (-1) ∨ ¬ (mk_fit (σ 0) (σ 6 k) (σ 9 i4) ≤ mk_fit (σ 0) (σ 6 k) (σ 9 ((mk_metR σ nw (σ 6 k) i4).toNatClampNeg)))))), (5, .int (xk_b (¬ (nw (120 + i4) ≤ 0) ∧ mk_tch σ (σ 6 k) (σ 9 i4)))), (4, .ref (ad (110 + i4))), (3, .int (nI i4)), (2, .int (mk_metR σ nw (σ 6 k) i4)), (0, .ref (ad 100)), (1, .ref (ad (120 + k)))]) hx hb dX2_metBy_122 hl (by decide) rfl (fun ls hl => ?_)
          refine lv_iload hx hb dX2_metBy_124 (lv_at hl 1 rfl) ?_
          have J139_7 : ∀ (H : Heap) (locs : List Loc) (ls : Array Slot) (t0 : Int32), t0 = (if ¬ (nw (120 + i4) ≤ 0) ∧ mk_tch σ (σ 6 k) (σ 9 i4) then (if mk_metR σ nw (σ 6 k) i4 = (-1) ∨ ¬ (mk_fit (σ 0) (σ 6 k) (σ 9 i4) ≤ mk_fit (σ 0) (σ 6 k) (σ 9 ((mk_metR σ nw (σ 6 k) i4).toNatClampNeg))) then nI i4 else mk_metR σ nw (σ 6 k) i4) else mk_metR σ nw (σ 6 k) i4) → bP D ad ρ σ nw n H → va_S A s.heap H locs → lv_has ls 7 [(6, .int (xk_b (mk_metR σ nw (σ 6 k) i4 = (-1) ∨ ¬ (mk_fit (σ 0) (σ 6 k) (σ 9 i4) ≤ mk_fit (σ 0) (σ 6 k) (σ 9 ((mk_metR σ nw (σ 6 k) i4).toNatClampNeg)))))), (5, .int (xk_b (¬ (nw (120 + i4) ≤ 0) ∧ mk_tch σ (σ 6 k) (σ 9 i4)))), (4, .ref (ad (110 + i4))), (3, .int (nI i4)), (2, .int (mk_metR σ nw (σ 6 k) i4)), (0, .ref (ad 100)), (1, .ref (ad (120 + k)))] → W p l e (xk_R 3 67) s m args below meth c H locs 0 0 Q (F0 m 139 ls [.int t0]) := by
            intro H locs ls t0 et0 hP hS hl
            subst et0
            refine lv_istore_n (lv' := [(2, .int (if ¬ (nw (120 + i4) ≤ 0) ∧ mk_tch σ (σ 6 k) (σ 9 i4) then (if mk_metR σ nw (σ 6 k) i4 = (-1) ∨ ¬ (mk_fit (σ 0) (σ 6 k) (σ 9 i4) ≤ mk_fit (σ 0) (σ 6 k) (σ 9 ((mk_metR σ nw (σ 6 k) i4).toNatClampNeg))) then nI i4 else mk_metR σ nw (σ 6 k) i4) else mk_metR σ nw (σ 6 k) i4)), (6, .int (xk_b (mk_metR σ nw (σ 6 k) i4 = (-1) ∨ ¬ (mk_fit (σ 0) (σ 6 k) (σ 9 i4) ≤ mk_fit (σ 0) (σ 6 k) (σ 9 ((mk_metR σ nw (σ 6 k) i4).toNatClampNeg)))))), (5, .int (xk_b (¬ (nw (120 + i4) ≤ 0) ∧ mk_tch σ (σ 6 k) (σ 9 i4)))), (4, .ref (ad (110 + i4))), (3, .int (nI i4)), (0, .ref (ad 100)), (1, .ref (ad (120 + k)))]) hx hb dX2_metBy_139 rfl hl (by decide) rfl (fun ls hl => ?_)
            refine lv_iinc (v := nI (i4 + 1)) (lv' := [(3, .int (nI (i4 + 1))), (2, .int (if ¬ (nw (120 + i4) ≤ 0) ∧ mk_tch σ (σ 6 k) (σ 9 i4) then (if mk_metR σ nw (σ 6 k) i4 = (-1) ∨ ¬ (mk_fit (σ 0) (σ 6 k) (σ 9 i4) ≤ mk_fit (σ 0) (σ 6 k) (σ 9 ((mk_metR σ nw (σ 6 k) i4).toNatClampNeg))) then nI i4 else mk_metR σ nw (σ 6 k) i4) else mk_metR σ nw (σ 6 k) i4)), (6, .int (xk_b (mk_metR σ nw (σ 6 k) i4 = (-1) ∨ ¬ (mk_fit (σ 0) (σ 6 k) (σ 9 i4) ≤ mk_fit (σ 0) (σ 6 k) (σ 9 ((mk_metR σ nw (σ 6 k) i4).toNatClampNeg)))))), (5, .int (xk_b (¬ (nw (120 + i4) ≤ 0) ∧ mk_tch σ (σ 6 k) (σ 9 i4)))), (4, .ref (ad (110 + i4))), (0, .ref (ad 100)), (1, .ref (ad (120 + k)))]) hx hb dX2_metBy_140 hl (k := 4) rfl (xk_inc i4) (by decide) rfl (fun ls hl => ?_)
            refine lv_goto (tgt := 4) hx hb dX2_metBy_143 (by decide) ?_
            exact ih4 (i4 + 1) (by omega) (by omega)  _ _ _ (if ¬ (nw (120 + i4) ≤ 0) ∧ mk_tch σ (σ 6 k) (σ 9 i4) then (if mk_metR σ nw (σ 6 k) i4 = (-1) ∨ ¬ (mk_fit (σ 0) (σ 6 k) (σ 9 i4) ≤ mk_fit (σ 0) (σ 6 k) (σ 9 ((mk_metR σ nw (σ 6 k) i4).toNatClampNeg))) then nI i4 else mk_metR σ nw (σ 6 k) i4) else mk_metR σ nw (σ 6 k) i4) (xk_bst _ _ _ _ _) hP hS (lv_sub hl [0, 1, 5, 6] rfl)
          refine xk_ifeq (tgt := 138) hx hb dX2_metBy_126 (by decide) (fun c_6 => ?_) (fun c_6 => ?_)
          · skip
            refine lv_iload_n hx hb dX2_metBy_138 rfl (lv_at hl 4 rfl) ?_
            exact J139_7 _ _ _ (mk_metR σ nw (σ 6 k) i4) ((if_neg c_6).symm) hP hS (lv_sub hl [0, 1, 2, 3, 4, 5, 6] rfl)
          refine lv_iload hx hb dX2_metBy_129 (lv_at hl 0 rfl) ?_
          refine xk_ifeq (tgt := 138) hx hb dX2_metBy_131 (by decide) (fun c_8 => ?_) (fun c_8 => ?_)
          · skip
            refine lv_iload_n hx hb dX2_metBy_138 rfl (lv_at hl 4 rfl) ?_
            exact J139_7 _ _ _ (mk_metR σ nw (σ 6 k) i4) (((if_neg c_8).symm).trans (if_pos c_6).symm) hP hS (lv_sub hl [0, 1, 2, 3, 4, 5, 6] rfl)
          refine lv_iload_n hx hb dX2_metBy_134 rfl (lv_at hl 3 rfl) ?_
          refine lv_goto (tgt := 139) hx hb dX2_metBy_135 (by decide) ?_
          exact J139_7 _ _ _ (nI i4) (((if_pos c_8).symm).trans (if_pos c_6).symm) hP hS (lv_sub hl [0, 1, 2, 3, 4, 5, 6] rfl)
        refine lv_icmp_eq (tgt := 117) hx hb dX2_metBy_68 (by decide) (fun c_4 => ?_) (fun c_4 => ?_)
        · skip
          refine lv_iconst (v := 1) hx hb dX2_metBy_117 (by decide) ?_
          refine lv_goto (tgt := 122) hx hb dX2_metBy_118 (by decide) ?_
          exact J122_5 _ _ _ 1 ((if_pos (Or.inl c_4)).symm) hP hS (lv_sub hl [0, 1, 2, 3, 4, 5] rfl)
        have hix := mk_ix_of (by omega) (mk_metR_ix σ nw (σ 6 k) i4) c_4
        have hix2 := hix.2.1
        have hl : lv_has ls 7 [(5, .int (xk_b (¬ (nw (120 + i4) ≤ 0) ∧ mk_tch σ (σ 6 k) (σ 9 i4)))), (4, .ref (ad (110 + i4))), (3, .int (nI i4)), (2, .int (nI ((mk_metR σ nw (σ 6 k) i4).toNatClampNeg))), (0, .ref (ad 100)), (1, .ref (ad (120 + k)))] := by rw [← hix.1]; exact hl
        refine lv_aload_n hx hb dX2_metBy_71 rfl (lv_at hl 4 rfl) ?_
        refine xk_getO hAt hK (b100 hP) (C := RX2) (T := TX2) (N := 7) rfl 6 (by decide) (v := .ref (ad 0)) rfl (hts _ q119) (fun _ h => h) in_X2 dX2_metBy_72 ?_
        refine lv_aload_n hx hb dX2_metBy_75 rfl (lv_at hl 5 rfl) ?_
        refine xk_getN hAt hK (bcell hP k (by omega)) (C := RX4) (T := TX4) (N := 7) rfl 1 (by decide) (v := .int (σ 6 k)) rfl q533 (fun _ h => h) in_X4 dX2_metBy_76 ?_
        refine lv_aload hx hb dX2_metBy_79 (lv_at hl 1 rfl) ?_
        refine xk_getN hAt hK (binv hP i4 (by omega)) (C := RX5) (T := TX5) (N := 5) rfl 0 (by decide) (v := .int (σ 9 i4)) rfl q602 (fun _ h => h) in_X5 dX2_metBy_81 ?_
        refine xk_ciN hAt hK (P := bP D ad ρ σ nw n) hP hA hS (xk_recv (q := (RX1, TX1, 6)) hK (b0 hP) rfl) (As := [.int (σ 6 k), .int (σ 9 i4)]) (rest := []) (b_fitOf l D A ad ρ σ nw n (σ 6 k) (σ 9 i4)) ⟨va_cnB 2 hts (lw_meth q280) rfl rfl rfl (xk_nw hK q698 rfl) (hts _ q37) cdX1_fitOf.2 ⟨Nat.le_of_ble_eq_true rfl, Nat.le_of_ble_eq_true rfl⟩, hts _ q279, hts _ qs3⟩ rfl hl.1 rfl (Nat.le_of_ble_eq_true rfl) dX2_metBy_84 ⟨Nat.le_refl _, Nat.le_refl _⟩ (fun r H locs hq hS => ?_)
        obtain ⟨rfl, hP⟩ := hq
        refine lv_aload_n hx hb dX2_metBy_87 rfl (lv_at hl 4 rfl) ?_
        refine xk_getO hAt hK (b100 hP) (C := RX2) (T := TX2) (N := 7) rfl 6 (by decide) (v := .ref (ad 0)) rfl (hts _ q119) (fun _ h => h) in_X2 dX2_metBy_88 ?_
        refine lv_aload_n hx hb dX2_metBy_91 rfl (lv_at hl 5 rfl) ?_
        refine xk_getN hAt hK (bcell hP k (by omega)) (C := RX4) (T := TX4) (N := 7) rfl 1 (by decide) (v := .int (σ 6 k)) rfl q533 (fun _ h => h) in_X4 dX2_metBy_92 ?_
        refine lv_aload_n hx hb dX2_metBy_95 rfl (lv_at hl 4 rfl) ?_
        refine xk_getO hAt hK (b100 hP) (C := RX2) (T := TX2) (N := 7) rfl 1 (by decide) (v := .ref (ad 102)) rfl (hts _ q111) (fun _ h => h) in_X2 dX2_metBy_96 ?_
        refine lv_iload_n hx hb dX2_metBy_99 rfl (lv_at hl 3 rfl) ?_
        refine xk_crF hAt hK (P := bP D ad ρ σ nw n) hP hA hS (xk_recvL hK (bvl hP)) (As := [.int (nI ((mk_metR σ nw (σ 6 k) i4).toNatClampNeg))]) (rest := [.int (σ 6 k), .ref (ad 0), .int (mk_fit (σ 0) (σ 6 k) (σ 9 i4))]) (al_get l D A (bP D ad ρ σ nw n) (ad 102) (ad 105) (n 4) (fun j => ad (110 + j)) (fun _ h => bvl h) ((mk_metR σ nw (σ 6 k) i4).toNatClampNeg) (by omega) (by omega)) (va_cwF 1 hts (xk_lwF q673 q253 q255 q40 q257) rfl rfl rfl hK.2.2.2.1 (by decide +kernel) ⟨Nat.le_of_ble_eq_true rfl, Nat.le_of_ble_eq_true rfl⟩) rfl hl.1 rfl (Nat.le_of_ble_eq_true rfl) dX2_metBy_100 ⟨Nat.le_refl _, Nat.le_refl _⟩ (fun r H locs hq hS => ?_)
        have hq : r = ad (110 + (mk_metR σ nw (σ 6 k) i4).toNatClampNeg) ∧ bP D ad ρ σ nw n H := hq
        obtain ⟨rfl, hP⟩ := hq
        refine xk_cast hAt hK (binv hP ((mk_metR σ nw (σ 6 k) i4).toNatClampNeg) (by omega)) rfl rfl (hts _ q674) dX2_metBy_105 ?_
        refine xk_getN hAt hK (binv hP ((mk_metR σ nw (σ 6 k) i4).toNatClampNeg) (by omega)) (C := RX5) (T := TX5) (N := 5) rfl 0 (by decide) (v := .int (σ 9 ((mk_metR σ nw (σ 6 k) i4).toNatClampNeg))) rfl q602 (fun _ h => h) in_X5 dX2_metBy_108 ?_
        refine xk_ciN hAt hK (P := bP D ad ρ σ nw n) hP hA hS (xk_recv (q := (RX1, TX1, 6)) hK (b0 hP) rfl) (As := [.int (σ 6 k), .int (σ 9 ((mk_metR σ nw (σ 6 k) i4).toNatClampNeg))]) (rest := [.int (mk_fit (σ 0) (σ 6 k) (σ 9 i4))]) (b_fitOf l D A ad ρ σ nw n (σ 6 k) (σ 9 ((mk_metR σ nw (σ 6 k) i4).toNatClampNeg))) ⟨va_cnB 2 hts (lw_meth q280) rfl rfl rfl (xk_nw hK q698 rfl) (hts _ q37) cdX1_fitOf.2 ⟨Nat.le_of_ble_eq_true rfl, Nat.le_of_ble_eq_true rfl⟩, hts _ q279, hts _ qs3⟩ rfl hl.1 rfl (Nat.le_of_ble_eq_true rfl) dX2_metBy_111 ⟨Nat.le_refl _, Nat.le_refl _⟩ (fun r H locs hq hS => ?_)
        obtain ⟨rfl, hP⟩ := hq
        refine lv_icmp_le (tgt := 121) hx hb dX2_metBy_114 (by decide) (fun c_9 => ?_) (fun c_9 => ?_)
        · skip
          have hl : lv_has ls 7 [(5, .int (xk_b (¬ (nw (120 + i4) ≤ 0) ∧ mk_tch σ (σ 6 k) (σ 9 i4)))), (4, .ref (ad (110 + i4))), (3, .int (nI i4)), (2, .int (mk_metR σ nw (σ 6 k) i4)), (0, .ref (ad 100)), (1, .ref (ad (120 + k)))] := by rw [hix.1]; exact hl
          refine lv_iconst (v := 0) hx hb dX2_metBy_121 (by decide) ?_
          exact J122_5 _ _ _ 0 ((if_neg (fun h => h.elim (fun z => c_4 z) (fun z => (fun h => h c_9) z))).symm) hP hS (lv_sub hl [0, 1, 2, 3, 4, 5] rfl)
        have hl : lv_has ls 7 [(5, .int (xk_b (¬ (nw (120 + i4) ≤ 0) ∧ mk_tch σ (σ 6 k) (σ 9 i4)))), (4, .ref (ad (110 + i4))), (3, .int (nI i4)), (2, .int (mk_metR σ nw (σ 6 k) i4)), (0, .ref (ad 100)), (1, .ref (ad (120 + k)))] := by rw [hix.1]; exact hl
        refine lv_iconst (v := 1) hx hb dX2_metBy_117 (by decide) ?_
        refine lv_goto (tgt := 122) hx hb dX2_metBy_118 (by decide) ?_
        exact J122_5 _ _ _ 1 ((if_pos (Or.inr c_9)).symm) hP hS (lv_sub hl [0, 1, 2, 3, 4, 5] rfl)
      refine lv_if_le (tgt := 63) hx hb dX2_metBy_37 (by decide) (fun c_2 => ?_) (fun c_2 => ?_)
      · skip
        refine lv_iconst (v := 0) hx hb dX2_metBy_63 (by decide) ?_
        exact J64_3 _ _ _ 0 ((if_neg (fun h => h.1 c_2)).symm) hP hS (lv_sub hl [0, 1, 2, 3, 4] rfl)
      refine lv_aload_n hx hb dX2_metBy_40 rfl (lv_at hl 3 rfl) ?_
      refine xk_getO hAt hK (b100 hP) (C := RX2) (T := TX2) (N := 7) rfl 6 (by decide) (v := .ref (ad 0)) rfl (hts _ q119) (fun _ h => h) in_X2 dX2_metBy_41 ?_
      refine lv_aload_n hx hb dX2_metBy_44 rfl (lv_at hl 4 rfl) ?_
      refine xk_getN hAt hK (bcell hP k (by omega)) (C := RX4) (T := TX4) (N := 7) rfl 1 (by decide) (v := .int (σ 6 k)) rfl q533 (fun _ h => h) in_X4 dX2_metBy_45 ?_
      refine lv_aload hx hb dX2_metBy_48 (lv_at hl 0 rfl) ?_
      refine xk_getN hAt hK (binv hP i4 (by omega)) (C := RX5) (T := TX5) (N := 5) rfl 0 (by decide) (v := .int (σ 9 i4)) rfl q602 (fun _ h => h) in_X5 dX2_metBy_50 ?_
      refine xk_ciN hAt hK (P := bP D ad ρ σ nw n) hP hA hS (xk_recv (q := (RX1, TX1, 6)) hK (b0 hP) rfl) (As := [.int (σ 6 k), .int (σ 9 i4)]) (rest := []) (b_touches l D A ad ρ σ nw n (σ 6 k) (σ 9 i4)) ⟨va_cnB 2 hts (lw_meth q276) rfl rfl rfl (xk_nw hK q697 rfl) (hts _ q37) cdX1_touches.2 ⟨Nat.le_of_ble_eq_true rfl, Nat.le_of_ble_eq_true rfl⟩, hts _ q275, hts _ qs2⟩ rfl hl.1 rfl (Nat.le_of_ble_eq_true rfl) dX2_metBy_53 ⟨Nat.le_refl _, Nat.le_refl _⟩ (fun r H locs hq hS => ?_)
      obtain ⟨rfl, hP⟩ := hq
      refine xk_ifeq (tgt := 63) hx hb dX2_metBy_56 (by decide) (fun c_10 => ?_) (fun c_10 => ?_)
      · skip
        refine lv_iconst (v := 0) hx hb dX2_metBy_63 (by decide) ?_
        exact J64_3 _ _ _ 0 ((if_neg (fun h => c_10 h.2)).symm) hP hS (lv_sub hl [0, 1, 2, 3, 4] rfl)
      refine lv_iconst (v := 1) hx hb dX2_metBy_59 (by decide) ?_
      refine lv_goto (tgt := 64) hx hb dX2_metBy_60 (by decide) ?_
      exact J64_3 _ _ _ 1 ((if_pos ⟨c_2, c_10⟩).symm) hP hS (lv_sub hl [0, 1, 2, 3, 4] rfl)
  exact L4 (n 4 + 1) 0 (by omega) (by omega)  _ _ _ (-1) (rfl) hP hS (lv_sub hl [0, 1, 2, 3] rfl)
set_option maxHeartbeats 4000000 in
theorem b_meetsI (l : Launch) (D : xk_G) (A : Nat → Prop) (ad : Nat → Nat) (ρ : Nat) (σ : Nat → Nat → Int32) (nw : Nat → Int32) (n : Nat → Nat) (h3m : n 3 ≤ 40) (h4m : n 4 ≤ 8) (k : Nat) (hk : k < n 3) : Met l yX2_meets (ws_ yX2_meets cX2_meets 2 (some .boolean)) (xk_R 4 93) (xk_Pre D A (bP D ad ρ σ nw n) [.ref (ad 100), .ref (ad (120 + k))]) (xk_Pi A (fun r H => r = xk_b (mk_mts σ nw n (σ 6 k)) ∧ bP D ad ρ σ nw n H)) 0 0 A := by
  refine xk_startZ (by decide +kernel) (Nat.le_of_ble_eq_true rfl) (fun r H h => by rw [h.1]; exact xk_b01 _) ?_
  intro p e s m args below meth c Q hAt hin hK hA hP hR ls hl
  obtain ⟨hx, hb, hml, hown, hts⟩ := id hAt
  have hl : lv_has ls 2 [(0, .ref (ad 100)), (1, .ref (ad (120 + k)))] := hl
  have hS : va_S A s.heap s.heap [] := va_S.rf
  refine lv_aload_n hx hb dX2_meets_0 rfl (lv_at hl 0 rfl) ?_
  refine lv_aload_n hx hb dX2_meets_1 rfl (lv_at hl 1 rfl) ?_
  refine xk_ciV hAt hK (P := bP D ad ρ σ nw n) hP hA hS (xk_recv (q := (RX2, TX2, 7)) hK (b100 hP) rfl) (As := [.ref (ad (120 + k))]) (rest := []) (b_metByI l D A ad ρ σ nw n (by assumption) (by assumption) k (by omega)) (cwV 1 hts (lw_V q693 q694 q695 q41 q696) rfl rfl rfl cdX2_metBy ⟨Nat.le_of_ble_eq_true rfl, Nat.le_of_ble_eq_true rfl⟩) rfl hl.1 rfl (Nat.le_of_ble_eq_true rfl) dX2_meets_2 ⟨Nat.le_refl _, Nat.le_refl _⟩ (fun r H locs hq hS => ?_)
  obtain ⟨rfl, hP⟩ := hq
  refine lv_iconst (v := (-1)) hx hb dX2_meets_5 (by decide) ?_
  have J14_2 : ∀ (H : Heap) (locs : List Loc) (ls : Array Slot) (t0 : Int32), t0 = xk_b (¬ (mk_met σ nw n (σ 6 k) = (-1))) → bP D ad ρ σ nw n H → va_S A s.heap H locs → lv_has ls 2 [(0, .ref (ad 100)), (1, .ref (ad (120 + k)))] → W p l e (xk_R 4 93) s m args below meth c H locs 0 0 Q (F0 m 14 ls [.int t0]) := by
    intro H locs ls t0 et0 hP hS hl
    subst et0
    exact hR _ _ _ _ _ dX2_meets_14 (⟨rfl, hP⟩) hS
  refine lv_icmp_eq (tgt := 13) hx hb dX2_meets_6 (by decide) (fun c_1 => ?_) (fun c_1 => ?_)
  · skip
    refine lv_iconst (v := 0) hx hb dX2_meets_13 (by decide) ?_
    exact J14_2 _ _ _ 0 ((if_neg (fun h => h c_1)).symm) hP hS (lv_sub hl [0, 1] rfl)
  refine lv_iconst (v := 1) hx hb dX2_meets_9 (by decide) ?_
  refine lv_goto (tgt := 14) hx hb dX2_meets_10 (by decide) ?_
  exact J14_2 _ _ _ 1 ((if_pos c_1).symm) hP hS (lv_sub hl [0, 1] rfl)
set_option maxHeartbeats 4000000 in
theorem b_invaderSizesI (l : Launch) (D : xk_G) (A : Nat → Prop) (ad : Nat → Nat) (ρ : Nat) (σ : Nat → Nat → Int32) (nw : Nat → Int32) (n : Nat → Nat) (h4m : n 4 ≤ 8) : Met l yX2_invaderSizes (ws_ yX2_invaderSizes cX2_invaderSizes 3 (some .int)) (xk_R 3 64) (xk_Pre D A (bP D ad ρ σ nw n) [.ref (ad 100)]) (xk_Pi A (fun r H => r = mk_sumI nw (n 4) ∧ bP D ad ρ σ nw n H)) 0 0 A := by
  refine xk_startI (by decide +kernel) (Nat.le_of_ble_eq_true rfl) ?_
  intro p e s m args below meth c Q hAt hin hK hA hP hR ls hl
  obtain ⟨hx, hb, hml, hown, hts⟩ := id hAt
  have hl : lv_has ls 3 [(0, .ref (ad 100))] := hl
  have hS : va_S A s.heap s.heap [] := va_S.rf
  refine lv_iconst (v := 0) hx hb dX2_invaderSizes_0 (by decide) ?_
  refine lv_istore_n (lv' := [(1, .int 0), (0, .ref (ad 100))]) hx hb dX2_invaderSizes_1 rfl hl (by decide) rfl (fun ls hl => ?_)
  refine lv_iconst (v := 0) hx hb dX2_invaderSizes_2 (by decide) ?_
  refine lv_istore_n (lv' := [(2, .int 0), (1, .int 0), (0, .ref (ad 100))]) hx hb dX2_invaderSizes_3 rfl hl (by decide) rfl (fun ls hl => ?_)
  have L4 : ∀ (fu i4 : Nat), n 4 + 1 ≤ i4 + fu → i4 ≤ n 4 → ∀ (H : Heap) (locs : List Loc) (ls : Array Slot) (v1 : Int32), v1 = mk_sumI nw i4 → bP D ad ρ σ nw n H → va_S A s.heap H locs → lv_has ls 3 [(2, .int (nI i4)), (1, .int v1), (0, .ref (ad 100))] → W p l e (xk_R 3 64) s m args below meth c H locs 0 0 Q (F0 m 4 ls []) := by
    intro fu
    induction fu with
    | zero => intro i4 h4a h4b; exact absurd h4a (by omega)
    | succ fu ih4 =>
      intro i4 h4a h4b  H locs ls v1 ev1 hP hS hl
      subst ev1
      refine lv_iload_n hx hb dX2_invaderSizes_4 rfl (lv_at hl 0 rfl) ?_
      refine lv_aload_n hx hb dX2_invaderSizes_5 rfl (lv_at hl 2 rfl) ?_
      refine xk_getO hAt hK (b100 hP) (C := RX2) (T := TX2) (N := 7) rfl 1 (by decide) (v := .ref (ad 102)) rfl (hts _ q111) (fun _ h => h) in_X2 dX2_invaderSizes_6 ?_
      refine xk_ciF hAt hK (P := bP D ad ρ σ nw n) hP hA hS (xk_recvL hK (bvl hP)) (As := []) (rest := [.int (nI i4)]) (al_size l D A (bP D ad ρ σ nw n) (ad 102) (ad 105) (n 4) (fun j => ad (110 + j)) (fun _ h => bvl h)) (va_cwF 0 hts (xk_lwF q671 q240 q242 q40 q244) rfl rfl rfl hK.2.2.1 (by decide +kernel) ⟨Nat.le_of_ble_eq_true rfl, Nat.le_of_ble_eq_true rfl⟩) rfl hl.1 rfl (Nat.le_of_ble_eq_true rfl) dX2_invaderSizes_9 ⟨Nat.le_refl _, Nat.le_refl _⟩ (fun r H locs hq hS => ?_)
      obtain ⟨rfl, hP⟩ := hq
      refine mk_ge (tgt := 42) (a := i4) (b := n 4) hx hb (by omega) (by omega) dX2_invaderSizes_14 (by decide) (fun c_1 => ?_) (fun c_1 => ?_)
      · skip
        obtain rfl : i4 = n 4 := by omega
        refine lv_iload_n hx hb dX2_invaderSizes_42 rfl (lv_at hl 1 rfl) ?_
        exact hR _ _ _ _ _ dX2_invaderSizes_43 (⟨rfl, hP⟩) hS
      refine lv_iload_n hx hb dX2_invaderSizes_17 rfl (lv_at hl 1 rfl) ?_
      refine lv_aload_n hx hb dX2_invaderSizes_18 rfl (lv_at hl 2 rfl) ?_
      refine xk_getO hAt hK (b100 hP) (C := RX2) (T := TX2) (N := 7) rfl 1 (by decide) (v := .ref (ad 102)) rfl (hts _ q111) (fun _ h => h) in_X2 dX2_invaderSizes_19 ?_
      refine lv_iload_n hx hb dX2_invaderSizes_22 rfl (lv_at hl 0 rfl) ?_
      refine xk_crF hAt hK (P := bP D ad ρ σ nw n) hP hA hS (xk_recvL hK (bvl hP)) (As := [.int (nI i4)]) (rest := [.int (mk_sumI nw i4)]) (al_get l D A (bP D ad ρ σ nw n) (ad 102) (ad 105) (n 4) (fun j => ad (110 + j)) (fun _ h => bvl h) i4 (by omega) (by omega)) (va_cwF 1 hts (xk_lwF q673 q253 q255 q40 q257) rfl rfl rfl hK.2.2.2.1 (by decide +kernel) ⟨Nat.le_of_ble_eq_true rfl, Nat.le_of_ble_eq_true rfl⟩) rfl hl.1 rfl (Nat.le_of_ble_eq_true rfl) dX2_invaderSizes_23 ⟨Nat.le_refl _, Nat.le_refl _⟩ (fun r H locs hq hS => ?_)
      have hq : r = ad (110 + i4) ∧ bP D ad ρ σ nw n H := hq
      obtain ⟨rfl, hP⟩ := hq
      refine xk_cast hAt hK (binv hP i4 (by omega)) rfl rfl (hts _ q674) dX2_invaderSizes_28 ?_
      refine xk_getN hAt hK (binv hP i4 (by omega)) (C := RX5) (T := TX5) (N := 5) rfl 1 (by decide) (v := .int (nw (120 + i4))) rfl q605 (fun _ h => h) in_X5 dX2_invaderSizes_31 ?_
      refine lv_iadd hx hb dX2_invaderSizes_34 ?_
      refine lv_istore_n (lv' := [(1, .int ((mk_sumI nw i4) + (nw (120 + i4)))), (2, .int (nI i4)), (0, .ref (ad 100))]) hx hb dX2_invaderSizes_35 rfl hl (by decide) rfl (fun ls hl => ?_)
      refine lv_iinc (v := nI (i4 + 1)) (lv' := [(2, .int (nI (i4 + 1))), (1, .int ((mk_sumI nw i4) + (nw (120 + i4)))), (0, .ref (ad 100))]) hx hb dX2_invaderSizes_36 hl (k := 1) rfl (xk_inc i4) (by decide) rfl (fun ls hl => ?_)
      refine lv_goto (tgt := 4) hx hb dX2_invaderSizes_39 (by decide) ?_
      exact ih4 (i4 + 1) (by omega) (by omega)  _ _ _ ((mk_sumI nw i4) + (nw (120 + i4))) (rfl) hP hS (lv_sub hl [0, 1, 2] rfl)
  exact L4 (n 4 + 1) 0 (by omega) (by omega)  _ _ _ 0 (rfl) hP hS (lv_sub hl [0, 1, 2] rfl)
set_option maxHeartbeats 4000000 in
theorem b_helpersI (l : Launch) (D : xk_G) (A : Nat → Prop) (ad : Nat → Nat) (ρ : Nat) (σ : Nat → Nat → Int32) (nw : Nat → Int32) (n : Nat → Nat) (h3m : n 3 ≤ 40) (h4m : n 4 ≤ 8) : Met l yX2_helpers (ws_ yX2_helpers cX2_helpers 4 (some .int)) (xk_R 5 114) (xk_Pre D A (bP D ad ρ σ nw n) [.ref (ad 100)]) (xk_Pi A (fun r H => r = bk_hlpR σ nw n (n 3) ∧ bP D ad ρ σ nw n H)) 0 0 A := by
  refine xk_startI (by decide +kernel) (Nat.le_of_ble_eq_true rfl) ?_
  intro p e s m args below meth c Q hAt hin hK hA hP hR ls hl
  obtain ⟨hx, hb, hml, hown, hts⟩ := id hAt
  have hl : lv_has ls 4 [(0, .ref (ad 100))] := hl
  have hS : va_S A s.heap s.heap [] := va_S.rf
  refine lv_iconst (v := 0) hx hb dX2_helpers_0 (by decide) ?_
  refine lv_istore_n (lv' := [(1, .int 0), (0, .ref (ad 100))]) hx hb dX2_helpers_1 rfl hl (by decide) rfl (fun ls hl => ?_)
  refine lv_iconst (v := 0) hx hb dX2_helpers_2 (by decide) ?_
  refine lv_istore_n (lv' := [(2, .int 0), (1, .int 0), (0, .ref (ad 100))]) hx hb dX2_helpers_3 rfl hl (by decide) rfl (fun ls hl => ?_)
  have L4 : ∀ (fu i4 : Nat), n 3 + 1 ≤ i4 + fu → i4 ≤ n 3 → ∀ (H : Heap) (locs : List Loc) (ls : Array Slot) (v1 : Int32), v1 = bk_hlpR σ nw n i4 → bP D ad ρ σ nw n H → va_S A s.heap H locs → lv_has ls 4 [(2, .int (nI i4)), (1, .int v1), (0, .ref (ad 100))] → W p l e (xk_R 5 114) s m args below meth c H locs 0 0 Q (F0 m 4 ls []) := by
    intro fu
    induction fu with
    | zero => intro i4 h4a h4b; exact absurd h4a (by omega)
    | succ fu ih4 =>
      intro i4 h4a h4b  H locs ls v1 ev1 hP hS hl
      subst ev1
      refine lv_iload_n hx hb dX2_helpers_4 rfl (lv_at hl 0 rfl) ?_
      refine lv_aload_n hx hb dX2_helpers_5 rfl (lv_at hl 2 rfl) ?_
      refine xk_getO hAt hK (b100 hP) (C := RX2) (T := TX2) (N := 7) rfl 0 (by decide) (v := .ref (ad 101)) rfl (hts _ q109) (fun _ h => h) in_X2 dX2_helpers_6 ?_
      refine xk_ciF hAt hK (P := bP D ad ρ σ nw n) hP hA hS (xk_recvL hK (bcl hP)) (As := []) (rest := [.int (nI i4)]) (al_size l D A (bP D ad ρ σ nw n) (ad 101) (ad 104) (n 3) (fun j => ad (120 + j)) (fun _ h => bcl h)) (va_cwF 0 hts (xk_lwF q671 q240 q242 q40 q244) rfl rfl rfl hK.2.2.1 (by decide +kernel) ⟨Nat.le_of_ble_eq_true rfl, Nat.le_of_ble_eq_true rfl⟩) rfl hl.1 rfl (Nat.le_of_ble_eq_true rfl) dX2_helpers_9 ⟨Nat.le_refl _, Nat.le_refl _⟩ (fun r H locs hq hS => ?_)
      obtain ⟨rfl, hP⟩ := hq
      refine mk_ge (tgt := 62) (a := i4) (b := n 3) hx hb (by omega) (by omega) dX2_helpers_14 (by decide) (fun c_1 => ?_) (fun c_1 => ?_)
      · skip
        obtain rfl : i4 = n 3 := by omega
        refine lv_iload_n hx hb dX2_helpers_62 rfl (lv_at hl 1 rfl) ?_
        exact hR _ _ _ _ _ dX2_helpers_63 (⟨rfl, hP⟩) hS
      refine lv_aload_n hx hb dX2_helpers_17 rfl (lv_at hl 2 rfl) ?_
      refine xk_getO hAt hK (b100 hP) (C := RX2) (T := TX2) (N := 7) rfl 0 (by decide) (v := .ref (ad 101)) rfl (hts _ q109) (fun _ h => h) in_X2 dX2_helpers_18 ?_
      refine lv_iload_n hx hb dX2_helpers_21 rfl (lv_at hl 0 rfl) ?_
      refine xk_crF hAt hK (P := bP D ad ρ σ nw n) hP hA hS (xk_recvL hK (bcl hP)) (As := [.int (nI i4)]) (rest := []) (al_get l D A (bP D ad ρ σ nw n) (ad 101) (ad 104) (n 3) (fun j => ad (120 + j)) (fun _ h => bcl h) i4 (by omega) (by omega)) (va_cwF 1 hts (xk_lwF q673 q253 q255 q40 q257) rfl rfl rfl hK.2.2.2.1 (by decide +kernel) ⟨Nat.le_of_ble_eq_true rfl, Nat.le_of_ble_eq_true rfl⟩) rfl hl.1 rfl (Nat.le_of_ble_eq_true rfl) dX2_helpers_22 ⟨Nat.le_refl _, Nat.le_refl _⟩ (fun r H locs hq hS => ?_)
      have hq : r = ad (120 + i4) ∧ bP D ad ρ σ nw n H := hq
      obtain ⟨rfl, hP⟩ := hq
      refine xk_cast hAt hK (bcell hP i4 (by omega)) rfl rfl (hts _ q688) dX2_helpers_27 ?_
      refine lv_astore_n (lv' := [(3, .ref (ad (120 + i4))), (2, .int (nI i4)), (1, .int (bk_hlpR σ nw n i4)), (0, .ref (ad 100))]) hx hb dX2_helpers_30 rfl hl (by decide) rfl (fun ls hl => ?_)
      refine lv_iload_n hx hb dX2_helpers_31 rfl (lv_at hl 2 rfl) ?_
      refine lv_aload_n hx hb dX2_helpers_32 rfl (lv_at hl 0 rfl) ?_
      refine lv_iconst (v := 1) hx hb dX2_helpers_33 (by decide) ?_
      refine lv_iconst (v := 3) hx hb dX2_helpers_34 (by decide) ?_
      refine xk_ciV hAt hK (P := bP D ad ρ σ nw n) hP hA hS (xk_recv (q := (RX4, TX4, 7)) hK (bcell hP i4 (by omega)) rfl) (As := [.int 1, .int 3]) (rest := [.int (bk_hlpR σ nw n i4)]) (b_isC l D A ad ρ σ nw n (by assumption) i4 (by omega) 1 3) (cwV 2 hts (lw_V q707 q656 q657 q60 q658) rfl rfl rfl cdX4_is ⟨Nat.le_of_ble_eq_true rfl, Nat.le_of_ble_eq_true rfl⟩) rfl hl.1 rfl (Nat.le_of_ble_eq_true rfl) dX2_helpers_35 ⟨Nat.le_refl _, Nat.le_refl _⟩ (fun r H locs hq hS => ?_)
      obtain ⟨rfl, hP⟩ := hq
      have J54_3 : ∀ (H : Heap) (locs : List Loc) (ls : Array Slot) (t0 : Int32), t0 = xk_b (bk_is σ nw i4 1 3 ∧ mk_mts σ nw n (σ 6 i4)) → bP D ad ρ σ nw n H → va_S A s.heap H locs → lv_has ls 4 [(3, .ref (ad (120 + i4))), (2, .int (nI i4)), (1, .int (bk_hlpR σ nw n i4)), (0, .ref (ad 100))] → W p l e (xk_R 5 114) s m args below meth c H locs 0 0 Q (F0 m 54 ls [.int t0, .int (bk_hlpR σ nw n i4)]) := by
        intro H locs ls t0 et0 hP hS hl
        subst et0
        refine lv_iadd hx hb dX2_helpers_54 ?_
        refine lv_istore_n (lv' := [(1, .int ((bk_hlpR σ nw n i4) + (xk_b (bk_is σ nw i4 1 3 ∧ mk_mts σ nw n (σ 6 i4))))), (3, .ref (ad (120 + i4))), (2, .int (nI i4)), (0, .ref (ad 100))]) hx hb dX2_helpers_55 rfl hl (by decide) rfl (fun ls hl => ?_)
        refine lv_iinc (v := nI (i4 + 1)) (lv' := [(2, .int (nI (i4 + 1))), (1, .int ((bk_hlpR σ nw n i4) + (xk_b (bk_is σ nw i4 1 3 ∧ mk_mts σ nw n (σ 6 i4))))), (3, .ref (ad (120 + i4))), (0, .ref (ad 100))]) hx hb dX2_helpers_56 hl (k := 2) rfl (xk_inc i4) (by decide) rfl (fun ls hl => ?_)
        refine lv_goto (tgt := 4) hx hb dX2_helpers_59 (by decide) ?_
        exact ih4 (i4 + 1) (by omega) (by omega)  _ _ _ ((bk_hlpR σ nw n i4) + (xk_b (bk_is σ nw i4 1 3 ∧ mk_mts σ nw n (σ 6 i4)))) (rfl) hP hS (lv_sub hl [0, 1, 3] rfl)
      refine xk_ifeq (tgt := 53) hx hb dX2_helpers_38 (by decide) (fun c_2 => ?_) (fun c_2 => ?_)
      · skip
        refine lv_iconst (v := 0) hx hb dX2_helpers_53 (by decide) ?_
        exact J54_3 _ _ _ 0 ((if_neg (fun h => c_2 h.1)).symm) hP hS (lv_sub hl [0, 1, 2, 3] rfl)
      refine lv_aload_n hx hb dX2_helpers_41 rfl (lv_at hl 3 rfl) ?_
      refine lv_aload_n hx hb dX2_helpers_42 rfl (lv_at hl 0 rfl) ?_
      refine xk_ciV hAt hK (P := bP D ad ρ σ nw n) hP hA hS (xk_recv (q := (RX2, TX2, 7)) hK (b100 hP) rfl) (As := [.ref (ad (120 + i4))]) (rest := [.int (bk_hlpR σ nw n i4)]) (b_meetsI l D A ad ρ σ nw n (by assumption) (by assumption) i4 (by omega)) (cwV 1 hts (lw_V q689 q690 q691 q41 q692) rfl rfl rfl cdX2_meets ⟨Nat.le_of_ble_eq_true rfl, Nat.le_of_ble_eq_true rfl⟩) rfl hl.1 rfl (Nat.le_of_ble_eq_true rfl) dX2_helpers_43 ⟨Nat.le_refl _, Nat.le_refl _⟩ (fun r H locs hq hS => ?_)
      obtain ⟨rfl, hP⟩ := hq
      refine xk_ifeq (tgt := 53) hx hb dX2_helpers_46 (by decide) (fun c_4 => ?_) (fun c_4 => ?_)
      · skip
        refine lv_iconst (v := 0) hx hb dX2_helpers_53 (by decide) ?_
        exact J54_3 _ _ _ 0 ((if_neg (fun h => c_4 h.2)).symm) hP hS (lv_sub hl [0, 1, 2, 3] rfl)
      refine lv_iconst (v := 1) hx hb dX2_helpers_49 (by decide) ?_
      refine lv_goto (tgt := 54) hx hb dX2_helpers_50 (by decide) ?_
      exact J54_3 _ _ _ 1 ((if_pos ⟨c_2, c_4⟩).symm) hP hS (lv_sub hl [0, 1, 2, 3] rfl)
  exact L4 (n 3 + 1) 0 (by omega) (by omega)  _ _ _ 0 (rfl) hP hS (lv_sub hl [0, 1, 2] rfl)
set_option maxHeartbeats 4000000 in
theorem b_isCalmedI (l : Launch) (D : xk_G) (A : Nat → Prop) (ad : Nat → Nat) (ρ : Nat) (σ : Nat → Nat → Int32) (nw : Nat → Int32) (n : Nat → Nat) (h0m : n 0 ≤ 8) (h3m : n 3 ≤ 40) (j : Nat) (hj : j < n 0) : Met l yX2_isCalmed (ws_ yX2_isCalmed cX2_isCalmed 4 (some .boolean)) (xk_R 3 67) (xk_Pre D A (bP D ad ρ σ nw n) [.ref (ad 100), .int (nI j)]) (xk_Pi A (fun r H => r = bk_clmR σ nw (σ 2 j) (n 3) ∧ bP D ad ρ σ nw n H)) 0 0 A := by
  refine xk_startZ (by decide +kernel) (Nat.le_of_ble_eq_true rfl) (fun r H h => by rw [h.1]; exact bk_clmR_01 _ _ _ _) ?_
  intro p e s m args below meth c Q hAt hin hK hA hP hR ls hl
  obtain ⟨hx, hb, hml, hown, hts⟩ := id hAt
  have hl : lv_has ls 4 [(0, .ref (ad 100)), (1, .int (nI j))] := hl
  have hS : va_S A s.heap s.heap [] := va_S.rf
  refine lv_iconst (v := 0) hx hb dX2_isCalmed_0 (by decide) ?_
  refine lv_istore_n (lv' := [(2, .int 0), (0, .ref (ad 100)), (1, .int (nI j))]) hx hb dX2_isCalmed_1 rfl hl (by decide) rfl (fun ls hl => ?_)
  refine lv_iconst (v := 0) hx hb dX2_isCalmed_2 (by decide) ?_
  refine lv_istore_n (lv' := [(3, .int 0), (2, .int 0), (0, .ref (ad 100)), (1, .int (nI j))]) hx hb dX2_isCalmed_3 rfl hl (by decide) rfl (fun ls hl => ?_)
  have L4 : ∀ (fu i4 : Nat), n 3 + 1 ≤ i4 + fu → i4 ≤ n 3 → ∀ (H : Heap) (locs : List Loc) (ls : Array Slot) (v2 : Int32), v2 = bk_clmR σ nw (σ 2 j) i4 → bP D ad ρ σ nw n H → va_S A s.heap H locs → lv_has ls 4 [(3, .int (nI i4)), (2, .int v2), (0, .ref (ad 100)), (1, .int (nI j))] → W p l e (xk_R 3 67) s m args below meth c H locs 0 0 Q (F0 m 4 ls []) := by
    intro fu
    induction fu with
    | zero => intro i4 h4a h4b; exact absurd h4a (by omega)
    | succ fu ih4 =>
      intro i4 h4a h4b  H locs ls v2 ev2 hP hS hl
      subst ev2
      refine lv_iload_n hx hb dX2_isCalmed_4 rfl (lv_at hl 0 rfl) ?_
      refine lv_aload_n hx hb dX2_isCalmed_5 rfl (lv_at hl 2 rfl) ?_
      refine xk_getO hAt hK (b100 hP) (C := RX2) (T := TX2) (N := 7) rfl 0 (by decide) (v := .ref (ad 101)) rfl (hts _ q109) (fun _ h => h) in_X2 dX2_isCalmed_6 ?_
      refine xk_ciF hAt hK (P := bP D ad ρ σ nw n) hP hA hS (xk_recvL hK (bcl hP)) (As := []) (rest := [.int (nI i4)]) (al_size l D A (bP D ad ρ σ nw n) (ad 101) (ad 104) (n 3) (fun j => ad (120 + j)) (fun _ h => bcl h)) (va_cwF 0 hts (xk_lwF q671 q240 q242 q40 q244) rfl rfl rfl hK.2.2.1 (by decide +kernel) ⟨Nat.le_of_ble_eq_true rfl, Nat.le_of_ble_eq_true rfl⟩) rfl hl.1 rfl (Nat.le_of_ble_eq_true rfl) dX2_isCalmed_9 ⟨Nat.le_refl _, Nat.le_refl _⟩ (fun r H locs hq hS => ?_)
      obtain ⟨rfl, hP⟩ := hq
      refine mk_ge (tgt := 97) (a := i4) (b := n 3) hx hb (by omega) (by omega) dX2_isCalmed_14 (by decide) (fun c_1 => ?_) (fun c_1 => ?_)
      · skip
        obtain rfl : i4 = n 3 := by omega
        refine lv_iload_n hx hb dX2_isCalmed_97 rfl (lv_at hl 1 rfl) ?_
        exact hR _ _ _ _ _ dX2_isCalmed_98 (⟨rfl, hP⟩) hS
      refine lv_iload_n hx hb dX2_isCalmed_17 rfl (lv_at hl 1 rfl) ?_
      refine lv_aload_n hx hb dX2_isCalmed_18 rfl (lv_at hl 2 rfl) ?_
      refine xk_getO hAt hK (b100 hP) (C := RX2) (T := TX2) (N := 7) rfl 0 (by decide) (v := .ref (ad 101)) rfl (hts _ q109) (fun _ h => h) in_X2 dX2_isCalmed_19 ?_
      refine lv_iload_n hx hb dX2_isCalmed_22 rfl (lv_at hl 0 rfl) ?_
      refine xk_crF hAt hK (P := bP D ad ρ σ nw n) hP hA hS (xk_recvL hK (bcl hP)) (As := [.int (nI i4)]) (rest := [.int (bk_clmR σ nw (σ 2 j) i4)]) (al_get l D A (bP D ad ρ σ nw n) (ad 101) (ad 104) (n 3) (fun j => ad (120 + j)) (fun _ h => bcl h) i4 (by omega) (by omega)) (va_cwF 1 hts (xk_lwF q673 q253 q255 q40 q257) rfl rfl rfl hK.2.2.2.1 (by decide +kernel) ⟨Nat.le_of_ble_eq_true rfl, Nat.le_of_ble_eq_true rfl⟩) rfl hl.1 rfl (Nat.le_of_ble_eq_true rfl) dX2_isCalmed_23 ⟨Nat.le_refl _, Nat.le_refl _⟩ (fun r H locs hq hS => ?_)
      have hq : r = ad (120 + i4) ∧ bP D ad ρ σ nw n H := hq
      obtain ⟨rfl, hP⟩ := hq
      refine xk_cast hAt hK (bcell hP i4 (by omega)) rfl rfl (hts _ q688) dX2_isCalmed_28 ?_
      refine lv_iconst (v := 2) hx hb dX2_isCalmed_31 (by decide) ?_
      refine lv_iconst (v := 2) hx hb dX2_isCalmed_32 (by decide) ?_
      refine xk_ciV hAt hK (P := bP D ad ρ σ nw n) hP hA hS (xk_recv (q := (RX4, TX4, 7)) hK (bcell hP i4 (by omega)) rfl) (As := [.int 2, .int 2]) (rest := [.int (bk_clmR σ nw (σ 2 j) i4)]) (b_isC l D A ad ρ σ nw n (by assumption) i4 (by omega) 2 2) (cwV 2 hts (lw_V q707 q656 q657 q60 q658) rfl rfl rfl cdX4_is ⟨Nat.le_of_ble_eq_true rfl, Nat.le_of_ble_eq_true rfl⟩) rfl hl.1 rfl (Nat.le_of_ble_eq_true rfl) dX2_isCalmed_33 ⟨Nat.le_refl _, Nat.le_refl _⟩ (fun r H locs hq hS => ?_)
      obtain ⟨rfl, hP⟩ := hq
      have J89_3 : ∀ (H : Heap) (locs : List Loc) (ls : Array Slot) (t0 : Int32), t0 = xk_b (bk_is σ nw i4 2 2 ∧ mk_tch σ (σ 6 i4) (σ 2 j)) → bP D ad ρ σ nw n H → va_S A s.heap H locs → lv_has ls 4 [(3, .int (nI i4)), (2, .int (bk_clmR σ nw (σ 2 j) i4)), (0, .ref (ad 100)), (1, .int (nI j))] → W p l e (xk_R 3 67) s m args below meth c H locs 0 0 Q (F0 m 89 ls [.int t0, .int (bk_clmR σ nw (σ 2 j) i4)]) := by
        intro H locs ls t0 et0 hP hS hl
        subst et0
        refine lv_ior hx hb dX2_isCalmed_89 ?_
        refine lv_istore_n (lv' := [(2, .int ((bk_clmR σ nw (σ 2 j) i4) ||| (xk_b (bk_is σ nw i4 2 2 ∧ mk_tch σ (σ 6 i4) (σ 2 j))))), (3, .int (nI i4)), (0, .ref (ad 100)), (1, .int (nI j))]) hx hb dX2_isCalmed_90 rfl hl (by decide) rfl (fun ls hl => ?_)
        refine lv_iinc (v := nI (i4 + 1)) (lv' := [(3, .int (nI (i4 + 1))), (2, .int ((bk_clmR σ nw (σ 2 j) i4) ||| (xk_b (bk_is σ nw i4 2 2 ∧ mk_tch σ (σ 6 i4) (σ 2 j))))), (0, .ref (ad 100)), (1, .int (nI j))]) hx hb dX2_isCalmed_91 hl (k := 1) rfl (xk_inc i4) (by decide) rfl (fun ls hl => ?_)
        refine lv_goto (tgt := 4) hx hb dX2_isCalmed_94 (by decide) ?_
        exact ih4 (i4 + 1) (by omega) (by omega)  _ _ _ ((bk_clmR σ nw (σ 2 j) i4) ||| (xk_b (bk_is σ nw i4 2 2 ∧ mk_tch σ (σ 6 i4) (σ 2 j)))) (rfl) hP hS (lv_sub hl [0, 1, 2, 3] rfl)
      refine xk_ifeq (tgt := 88) hx hb dX2_isCalmed_36 (by decide) (fun c_2 => ?_) (fun c_2 => ?_)
      · skip
        refine lv_iconst (v := 0) hx hb dX2_isCalmed_88 (by decide) ?_
        exact J89_3 _ _ _ 0 ((if_neg (fun h => c_2 h.1)).symm) hP hS (lv_sub hl [0, 1, 2, 3] rfl)
      refine lv_aload_n hx hb dX2_isCalmed_39 rfl (lv_at hl 2 rfl) ?_
      refine xk_getO hAt hK (b100 hP) (C := RX2) (T := TX2) (N := 7) rfl 6 (by decide) (v := .ref (ad 0)) rfl (hts _ q119) (fun _ h => h) in_X2 dX2_isCalmed_40 ?_
      refine lv_aload_n hx hb dX2_isCalmed_43 rfl (lv_at hl 2 rfl) ?_
      refine xk_getO hAt hK (b100 hP) (C := RX2) (T := TX2) (N := 7) rfl 0 (by decide) (v := .ref (ad 101)) rfl (hts _ q109) (fun _ h => h) in_X2 dX2_isCalmed_44 ?_
      refine lv_iload_n hx hb dX2_isCalmed_47 rfl (lv_at hl 0 rfl) ?_
      refine xk_crF hAt hK (P := bP D ad ρ σ nw n) hP hA hS (xk_recvL hK (bcl hP)) (As := [.int (nI i4)]) (rest := [.ref (ad 0), .int (bk_clmR σ nw (σ 2 j) i4)]) (al_get l D A (bP D ad ρ σ nw n) (ad 101) (ad 104) (n 3) (fun j => ad (120 + j)) (fun _ h => bcl h) i4 (by omega) (by omega)) (va_cwF 1 hts (xk_lwF q673 q253 q255 q40 q257) rfl rfl rfl hK.2.2.2.1 (by decide +kernel) ⟨Nat.le_of_ble_eq_true rfl, Nat.le_of_ble_eq_true rfl⟩) rfl hl.1 rfl (Nat.le_of_ble_eq_true rfl) dX2_isCalmed_48 ⟨Nat.le_refl _, Nat.le_refl _⟩ (fun r H locs hq hS => ?_)
      have hq : r = ad (120 + i4) ∧ bP D ad ρ σ nw n H := hq
      obtain ⟨rfl, hP⟩ := hq
      refine xk_cast hAt hK (bcell hP i4 (by omega)) rfl rfl (hts _ q688) dX2_isCalmed_53 ?_
      refine xk_getN hAt hK (bcell hP i4 (by omega)) (C := RX4) (T := TX4) (N := 7) rfl 1 (by decide) (v := .int (σ 6 i4)) rfl q533 (fun _ h => h) in_X4 dX2_isCalmed_56 ?_
      refine lv_aload_n hx hb dX2_isCalmed_59 rfl (lv_at hl 2 rfl) ?_
      refine xk_getO hAt hK (b100 hP) (C := RX2) (T := TX2) (N := 7) rfl 6 (by decide) (v := .ref (ad 0)) rfl (hts _ q119) (fun _ h => h) in_X2 dX2_isCalmed_60 ?_
      refine xk_getN hAt hK (b0 hP) (C := RX1) (T := TX1) (N := 6) rfl 2 (by decide) (v := .ref (ad 7)) rfl q139 (fun _ h => h) in_X1 dX2_isCalmed_63 ?_
      refine lv_iload_n hx hb dX2_isCalmed_66 rfl (lv_at hl 3 rfl) ?_
      refine xk_crF hAt hK (P := bP D ad ρ σ nw n) hP hA hS (xk_recvL hK (bow hP)) (As := [.int (nI j)]) (rest := [.int (σ 6 i4), .ref (ad 0), .int (bk_clmR σ nw (σ 2 j) i4)]) (al_get l D A (bP D ad ρ σ nw n) (ad 7) (ad 10) (n 0) (fun j => ad (20 + j)) (fun _ h => bow h) j (by omega) (by omega)) (va_cwF 1 hts (xk_lwF q673 q253 q255 q40 q257) rfl rfl rfl hK.2.2.2.1 (by decide +kernel) ⟨Nat.le_of_ble_eq_true rfl, Nat.le_of_ble_eq_true rfl⟩) rfl hl.1 rfl (Nat.le_of_ble_eq_true rfl) dX2_isCalmed_67 ⟨Nat.le_refl _, Nat.le_refl _⟩ (fun r H locs hq hS => ?_)
      have hq : r = ad (20 + j) ∧ bP D ad ρ σ nw n H := hq
      obtain ⟨rfl, hP⟩ := hq
      refine xk_castX hAt hK (bxo hP j (by omega)) (hts _ q738) dX2_isCalmed_72 ?_
      refine xk_ciV hAt hK (P := bP D ad ρ σ nw n) hP hA hS (xk_recvX hK (bxo hP j (by omega))) (As := []) (rest := [.int (σ 6 i4), .ref (ad 0), .int (bk_clmR σ nw (σ 2 j) i4)]) (in_val l D A (bP D ad ρ σ nw n) (ad (20 + j)) (σ 2 j) (fun _ h => bxo h j (by omega))) (cwV 0 hts (lw_V q739 q270 q271 q49 q272) rfl rfl rfl cdJ9_intValue ⟨Nat.le_of_ble_eq_true rfl, Nat.le_of_ble_eq_true rfl⟩) rfl hl.1 rfl (Nat.le_of_ble_eq_true rfl) dX2_isCalmed_75 ⟨Nat.le_refl _, Nat.le_refl _⟩ (fun r H locs hq hS => ?_)
      obtain ⟨rfl, hP⟩ := hq
      refine xk_ciN hAt hK (P := bP D ad ρ σ nw n) hP hA hS (xk_recv (q := (RX1, TX1, 6)) hK (b0 hP) rfl) (As := [.int (σ 6 i4), .int (σ 2 j)]) (rest := [.int (bk_clmR σ nw (σ 2 j) i4)]) (b_touches l D A ad ρ σ nw n (σ 6 i4) (σ 2 j)) ⟨va_cnB 2 hts (lw_meth q276) rfl rfl rfl (xk_nw hK q697 rfl) (hts _ q37) cdX1_touches.2 ⟨Nat.le_of_ble_eq_true rfl, Nat.le_of_ble_eq_true rfl⟩, hts _ q275, hts _ qs2⟩ rfl hl.1 rfl (Nat.le_of_ble_eq_true rfl) dX2_isCalmed_78 ⟨Nat.le_refl _, Nat.le_refl _⟩ (fun r H locs hq hS => ?_)
      obtain ⟨rfl, hP⟩ := hq
      refine xk_ifeq (tgt := 88) hx hb dX2_isCalmed_81 (by decide) (fun c_4 => ?_) (fun c_4 => ?_)
      · skip
        refine lv_iconst (v := 0) hx hb dX2_isCalmed_88 (by decide) ?_
        exact J89_3 _ _ _ 0 ((if_neg (fun h => c_4 h.2)).symm) hP hS (lv_sub hl [0, 1, 2, 3] rfl)
      refine lv_iconst (v := 1) hx hb dX2_isCalmed_84 (by decide) ?_
      refine lv_goto (tgt := 89) hx hb dX2_isCalmed_85 (by decide) ?_
      exact J89_3 _ _ _ 1 ((if_pos ⟨c_2, c_4⟩).symm) hP hS (lv_sub hl [0, 1, 2, 3] rfl)
  exact L4 (n 3 + 1) 0 (by omega) (by omega)  _ _ _ 0 (rfl) hP hS (lv_sub hl [0, 1, 2, 3] rfl)
set_option maxHeartbeats 4000000 in
theorem b_ownTouchedI (l : Launch) (D : xk_G) (A : Nat → Prop) (ad : Nat → Nat) (ρ : Nat) (σ : Nat → Nat → Int32) (nw : Nat → Int32) (n : Nat → Nat) (h0m : n 0 ≤ 8) (a : Int32) : Met l yX2_ownTouched (ws_ yX2_ownTouched cX2_ownTouched 5 (some .int)) (xk_R 3 67) (xk_Pre D A (bP D ad ρ σ nw n) [.ref (ad 100), .int a]) (xk_Pi A (fun r H => r = mk_otR σ a (n 0) ∧ bP D ad ρ σ nw n H)) 0 0 A := by
  refine xk_startI (by decide +kernel) (Nat.le_of_ble_eq_true rfl) ?_
  intro p e s m args below meth c Q hAt hin hK hA hP hR ls hl
  obtain ⟨hx, hb, hml, hown, hts⟩ := id hAt
  have hl : lv_has ls 5 [(0, .ref (ad 100)), (1, .int a)] := hl
  have hS : va_S A s.heap s.heap [] := va_S.rf
  refine lv_iconst (v := (-1)) hx hb dX2_ownTouched_0 (by decide) ?_
  refine lv_istore_n (lv' := [(2, .int (-1)), (0, .ref (ad 100)), (1, .int a)]) hx hb dX2_ownTouched_1 rfl hl (by decide) rfl (fun ls hl => ?_)
  refine lv_iconst (v := 0) hx hb dX2_ownTouched_2 (by decide) ?_
  refine lv_istore_n (lv' := [(3, .int 0), (2, .int (-1)), (0, .ref (ad 100)), (1, .int a)]) hx hb dX2_ownTouched_3 rfl hl (by decide) rfl (fun ls hl => ?_)
  have L4 : ∀ (fu i4 : Nat), n 0 + 1 ≤ i4 + fu → i4 ≤ n 0 → ∀ (H : Heap) (locs : List Loc) (ls : Array Slot) (v2 : Int32), v2 = mk_otR σ a i4 → bP D ad ρ σ nw n H → va_S A s.heap H locs → lv_has ls 5 [(3, .int (nI i4)), (2, .int v2), (0, .ref (ad 100)), (1, .int a)] → W p l e (xk_R 3 67) s m args below meth c H locs 0 0 Q (F0 m 4 ls []) := by
    intro fu
    induction fu with
    | zero => intro i4 h4a h4b; exact absurd h4a (by omega)
    | succ fu ih4 =>
      intro i4 h4a h4b  H locs ls v2 ev2 hP hS hl
      subst ev2
      refine lv_iload_n hx hb dX2_ownTouched_4 rfl (lv_at hl 0 rfl) ?_
      refine lv_aload_n hx hb dX2_ownTouched_5 rfl (lv_at hl 2 rfl) ?_
      refine xk_getO hAt hK (b100 hP) (C := RX2) (T := TX2) (N := 7) rfl 6 (by decide) (v := .ref (ad 0)) rfl (hts _ q119) (fun _ h => h) in_X2 dX2_ownTouched_6 ?_
      refine xk_getN hAt hK (b0 hP) (C := RX1) (T := TX1) (N := 6) rfl 2 (by decide) (v := .ref (ad 7)) rfl q139 (fun _ h => h) in_X1 dX2_ownTouched_9 ?_
      refine xk_ciF hAt hK (P := bP D ad ρ σ nw n) hP hA hS (xk_recvL hK (bow hP)) (As := []) (rest := [.int (nI i4)]) (al_size l D A (bP D ad ρ σ nw n) (ad 7) (ad 10) (n 0) (fun j => ad (20 + j)) (fun _ h => bow h)) (va_cwF 0 hts (xk_lwF q671 q240 q242 q40 q244) rfl rfl rfl hK.2.2.1 (by decide +kernel) ⟨Nat.le_of_ble_eq_true rfl, Nat.le_of_ble_eq_true rfl⟩) rfl hl.1 rfl (Nat.le_of_ble_eq_true rfl) dX2_ownTouched_12 ⟨Nat.le_refl _, Nat.le_refl _⟩ (fun r H locs hq hS => ?_)
      obtain ⟨rfl, hP⟩ := hq
      refine mk_ge (tgt := 136) (a := i4) (b := n 0) hx hb (by omega) (by omega) dX2_ownTouched_17 (by decide) (fun c_1 => ?_) (fun c_1 => ?_)
      · skip
        obtain rfl : i4 = n 0 := by omega
        refine lv_iload_n hx hb dX2_ownTouched_136 rfl (lv_at hl 1 rfl) ?_
        exact hR _ _ _ _ _ dX2_ownTouched_137 (⟨rfl, hP⟩) hS
      refine lv_iload_n hx hb dX2_ownTouched_20 rfl (lv_at hl 1 rfl) ?_
      refine lv_iconst (v := (-1)) hx hb dX2_ownTouched_21 (by decide) ?_
      have J87_3 : ∀ (H : Heap) (locs : List Loc) (ls : Array Slot) (t0 : Int32), t0 = xk_b (mk_otR σ a i4 = (-1) ∨ ¬ (mk_fit (σ 0) a (σ 2 i4) ≤ mk_fit (σ 0) a (σ 2 ((mk_otR σ a i4).toNatClampNeg)))) → bP D ad ρ σ nw n H → va_S A s.heap H locs → lv_has ls 5 [(3, .int (nI i4)), (2, .int (mk_otR σ a i4)), (0, .ref (ad 100)), (1, .int a)] → W p l e (xk_R 3 67) s m args below meth c H locs 0 0 Q (F0 m 87 ls [.int t0]) := by
        intro H locs ls t0 et0 hP hS hl
        subst et0
        refine lv_istore (lv' := [(4, .int (xk_b (mk_otR σ a i4 = (-1) ∨ ¬ (mk_fit (σ 0) a (σ 2 i4) ≤ mk_fit (σ 0) a (σ 2 ((mk_otR σ a i4).toNatClampNeg)))))), (3, .int (nI i4)), (2, .int (mk_otR σ a i4)), (0, .ref (ad 100)), (1, .int a)]) hx hb dX2_ownTouched_87 hl (by decide) rfl (fun ls hl => ?_)
        refine lv_aload_n hx hb dX2_ownTouched_89 rfl (lv_at hl 3 rfl) ?_
        refine xk_getO hAt hK (b100 hP) (C := RX2) (T := TX2) (N := 7) rfl 6 (by decide) (v := .ref (ad 0)) rfl (hts _ q119) (fun _ h => h) in_X2 dX2_ownTouched_90 ?_
        refine lv_iload_n hx hb dX2_ownTouched_93 rfl (lv_at hl 4 rfl) ?_
        refine lv_aload_n hx hb dX2_ownTouched_94 rfl (lv_at hl 3 rfl) ?_
        refine xk_getO hAt hK (b100 hP) (C := RX2) (T := TX2) (N := 7) rfl 6 (by decide) (v := .ref (ad 0)) rfl (hts _ q119) (fun _ h => h) in_X2 dX2_ownTouched_95 ?_
        refine xk_getN hAt hK (b0 hP) (C := RX1) (T := TX1) (N := 6) rfl 2 (by decide) (v := .ref (ad 7)) rfl q139 (fun _ h => h) in_X1 dX2_ownTouched_98 ?_
        refine lv_iload_n hx hb dX2_ownTouched_101 rfl (lv_at hl 1 rfl) ?_
        refine xk_crF hAt hK (P := bP D ad ρ σ nw n) hP hA hS (xk_recvL hK (bow hP)) (As := [.int (nI i4)]) (rest := [.int a, .ref (ad 0)]) (al_get l D A (bP D ad ρ σ nw n) (ad 7) (ad 10) (n 0) (fun j => ad (20 + j)) (fun _ h => bow h) i4 (by omega) (by omega)) (va_cwF 1 hts (xk_lwF q673 q253 q255 q40 q257) rfl rfl rfl hK.2.2.2.1 (by decide +kernel) ⟨Nat.le_of_ble_eq_true rfl, Nat.le_of_ble_eq_true rfl⟩) rfl hl.1 rfl (Nat.le_of_ble_eq_true rfl) dX2_ownTouched_102 ⟨Nat.le_refl _, Nat.le_refl _⟩ (fun r H locs hq hS => ?_)
        have hq : r = ad (20 + i4) ∧ bP D ad ρ σ nw n H := hq
        obtain ⟨rfl, hP⟩ := hq
        refine xk_castX hAt hK (bxo hP i4 (by omega)) (hts _ q738) dX2_ownTouched_107 ?_
        refine xk_ciV hAt hK (P := bP D ad ρ σ nw n) hP hA hS (xk_recvX hK (bxo hP i4 (by omega))) (As := []) (rest := [.int a, .ref (ad 0)]) (in_val l D A (bP D ad ρ σ nw n) (ad (20 + i4)) (σ 2 i4) (fun _ h => bxo h i4 (by omega))) (cwV 0 hts (lw_V q739 q270 q271 q49 q272) rfl rfl rfl cdJ9_intValue ⟨Nat.le_of_ble_eq_true rfl, Nat.le_of_ble_eq_true rfl⟩) rfl hl.1 rfl (Nat.le_of_ble_eq_true rfl) dX2_ownTouched_110 ⟨Nat.le_refl _, Nat.le_refl _⟩ (fun r H locs hq hS => ?_)
        obtain ⟨rfl, hP⟩ := hq
        refine xk_ciN hAt hK (P := bP D ad ρ σ nw n) hP hA hS (xk_recv (q := (RX1, TX1, 6)) hK (b0 hP) rfl) (As := [.int a, .int (σ 2 i4)]) (rest := []) (b_touches l D A ad ρ σ nw n a (σ 2 i4)) ⟨va_cnB 2 hts (lw_meth q276) rfl rfl rfl (xk_nw hK q697 rfl) (hts _ q37) cdX1_touches.2 ⟨Nat.le_of_ble_eq_true rfl, Nat.le_of_ble_eq_true rfl⟩, hts _ q275, hts _ qs2⟩ rfl hl.1 rfl (Nat.le_of_ble_eq_true rfl) dX2_ownTouched_113 ⟨Nat.le_refl _, Nat.le_refl _⟩ (fun r H locs hq hS => ?_)
        obtain ⟨rfl, hP⟩ := hq
        have J129_5 : ∀ (H : Heap) (locs : List Loc) (ls : Array Slot) (t0 : Int32), t0 = (if mk_tch σ a (σ 2 i4) then (if mk_otR σ a i4 = (-1) ∨ ¬ (mk_fit (σ 0) a (σ 2 i4) ≤ mk_fit (σ 0) a (σ 2 ((mk_otR σ a i4).toNatClampNeg))) then nI i4 else mk_otR σ a i4) else mk_otR σ a i4) → bP D ad ρ σ nw n H → va_S A s.heap H locs → lv_has ls 5 [(4, .int (xk_b (mk_otR σ a i4 = (-1) ∨ ¬ (mk_fit (σ 0) a (σ 2 i4) ≤ mk_fit (σ 0) a (σ 2 ((mk_otR σ a i4).toNatClampNeg)))))), (3, .int (nI i4)), (2, .int (mk_otR σ a i4)), (0, .ref (ad 100)), (1, .int a)] → W p l e (xk_R 3 67) s m args below meth c H locs 0 0 Q (F0 m 129 ls [.int t0]) := by
          intro H locs ls t0 et0 hP hS hl
          subst et0
          refine lv_istore_n (lv' := [(2, .int (if mk_tch σ a (σ 2 i4) then (if mk_otR σ a i4 = (-1) ∨ ¬ (mk_fit (σ 0) a (σ 2 i4) ≤ mk_fit (σ 0) a (σ 2 ((mk_otR σ a i4).toNatClampNeg))) then nI i4 else mk_otR σ a i4) else mk_otR σ a i4)), (4, .int (xk_b (mk_otR σ a i4 = (-1) ∨ ¬ (mk_fit (σ 0) a (σ 2 i4) ≤ mk_fit (σ 0) a (σ 2 ((mk_otR σ a i4).toNatClampNeg)))))), (3, .int (nI i4)), (0, .ref (ad 100)), (1, .int a)]) hx hb dX2_ownTouched_129 rfl hl (by decide) rfl (fun ls hl => ?_)
          refine lv_iinc (v := nI (i4 + 1)) (lv' := [(3, .int (nI (i4 + 1))), (2, .int (if mk_tch σ a (σ 2 i4) then (if mk_otR σ a i4 = (-1) ∨ ¬ (mk_fit (σ 0) a (σ 2 i4) ≤ mk_fit (σ 0) a (σ 2 ((mk_otR σ a i4).toNatClampNeg))) then nI i4 else mk_otR σ a i4) else mk_otR σ a i4)), (4, .int (xk_b (mk_otR σ a i4 = (-1) ∨ ¬ (mk_fit (σ 0) a (σ 2 i4) ≤ mk_fit (σ 0) a (σ 2 ((mk_otR σ a i4).toNatClampNeg)))))), (0, .ref (ad 100)), (1, .int a)]) hx hb dX2_ownTouched_130 hl (k := 2) rfl (xk_inc i4) (by decide) rfl (fun ls hl => ?_)
          refine lv_goto (tgt := 4) hx hb dX2_ownTouched_133 (by decide) ?_
          exact ih4 (i4 + 1) (by omega) (by omega)  _ _ _ (if mk_tch σ a (σ 2 i4) then (if mk_otR σ a i4 = (-1) ∨ ¬ (mk_fit (σ 0) a (σ 2 i4) ≤ mk_fit (σ 0) a (σ 2 ((mk_otR σ a i4).toNatClampNeg))) then nI i4 else mk_otR σ a i4) else mk_otR σ a i4) (xk_bst _ _ _ _ _) hP hS (lv_sub hl [0, 1, 3, 4] rfl)
        refine xk_ifeq (tgt := 128) hx hb dX2_ownTouched_116 (by decide) (fun c_4 => ?_) (fun c_4 => ?_)
        · skip
          refine lv_iload_n hx hb dX2_ownTouched_128 rfl (lv_at hl 2 rfl) ?_
          exact J129_5 _ _ _ (mk_otR σ a i4) ((if_neg c_4).symm) hP hS (lv_sub hl [0, 1, 2, 3, 4] rfl)
        refine lv_iload hx hb dX2_ownTouched_119 (lv_at hl 0 rfl) ?_
        refine xk_ifeq (tgt := 128) hx hb dX2_ownTouched_121 (by decide) (fun c_6 => ?_) (fun c_6 => ?_)
        · skip
          refine lv_iload_n hx hb dX2_ownTouched_128 rfl (lv_at hl 2 rfl) ?_
          exact J129_5 _ _ _ (mk_otR σ a i4) (((if_neg c_6).symm).trans (if_pos c_4).symm) hP hS (lv_sub hl [0, 1, 2, 3, 4] rfl)
        refine lv_iload_n hx hb dX2_ownTouched_124 rfl (lv_at hl 1 rfl) ?_
        refine lv_goto (tgt := 129) hx hb dX2_ownTouched_125 (by decide) ?_
        exact J129_5 _ _ _ (nI i4) (((if_pos c_6).symm).trans (if_pos c_4).symm) hP hS (lv_sub hl [0, 1, 2, 3, 4] rfl)
      refine lv_icmp_eq (tgt := 82) hx hb dX2_ownTouched_22 (by decide) (fun c_2 => ?_) (fun c_2 => ?_)
      · skip
        refine lv_iconst (v := 1) hx hb dX2_ownTouched_82 (by decide) ?_
        refine lv_goto (tgt := 87) hx hb dX2_ownTouched_83 (by decide) ?_
        exact J87_3 _ _ _ 1 ((if_pos (Or.inl c_2)).symm) hP hS (lv_sub hl [0, 1, 2, 3] rfl)
      have hix := mk_ix_of (by omega) (mk_otR_ix σ a i4) c_2
      have hix2 := hix.2.1
      have hl : lv_has ls 5 [(3, .int (nI i4)), (2, .int (nI ((mk_otR σ a i4).toNatClampNeg))), (0, .ref (ad 100)), (1, .int a)] := by rw [← hix.1]; exact hl
      refine lv_aload_n hx hb dX2_ownTouched_25 rfl (lv_at hl 2 rfl) ?_
      refine xk_getO hAt hK (b100 hP) (C := RX2) (T := TX2) (N := 7) rfl 6 (by decide) (v := .ref (ad 0)) rfl (hts _ q119) (fun _ h => h) in_X2 dX2_ownTouched_26 ?_
      refine lv_iload_n hx hb dX2_ownTouched_29 rfl (lv_at hl 3 rfl) ?_
      refine lv_aload_n hx hb dX2_ownTouched_30 rfl (lv_at hl 2 rfl) ?_
      refine xk_getO hAt hK (b100 hP) (C := RX2) (T := TX2) (N := 7) rfl 6 (by decide) (v := .ref (ad 0)) rfl (hts _ q119) (fun _ h => h) in_X2 dX2_ownTouched_31 ?_
      refine xk_getN hAt hK (b0 hP) (C := RX1) (T := TX1) (N := 6) rfl 2 (by decide) (v := .ref (ad 7)) rfl q139 (fun _ h => h) in_X1 dX2_ownTouched_34 ?_
      refine lv_iload_n hx hb dX2_ownTouched_37 rfl (lv_at hl 0 rfl) ?_
      refine xk_crF hAt hK (P := bP D ad ρ σ nw n) hP hA hS (xk_recvL hK (bow hP)) (As := [.int (nI i4)]) (rest := [.int a, .ref (ad 0)]) (al_get l D A (bP D ad ρ σ nw n) (ad 7) (ad 10) (n 0) (fun j => ad (20 + j)) (fun _ h => bow h) i4 (by omega) (by omega)) (va_cwF 1 hts (xk_lwF q673 q253 q255 q40 q257) rfl rfl rfl hK.2.2.2.1 (by decide +kernel) ⟨Nat.le_of_ble_eq_true rfl, Nat.le_of_ble_eq_true rfl⟩) rfl hl.1 rfl (Nat.le_of_ble_eq_true rfl) dX2_ownTouched_38 ⟨Nat.le_refl _, Nat.le_refl _⟩ (fun r H locs hq hS => ?_)
      have hq : r = ad (20 + i4) ∧ bP D ad ρ σ nw n H := hq
      obtain ⟨rfl, hP⟩ := hq
      refine xk_castX hAt hK (bxo hP i4 (by omega)) (hts _ q738) dX2_ownTouched_43 ?_
      refine xk_ciV hAt hK (P := bP D ad ρ σ nw n) hP hA hS (xk_recvX hK (bxo hP i4 (by omega))) (As := []) (rest := [.int a, .ref (ad 0)]) (in_val l D A (bP D ad ρ σ nw n) (ad (20 + i4)) (σ 2 i4) (fun _ h => bxo h i4 (by omega))) (cwV 0 hts (lw_V q739 q270 q271 q49 q272) rfl rfl rfl cdJ9_intValue ⟨Nat.le_of_ble_eq_true rfl, Nat.le_of_ble_eq_true rfl⟩) rfl hl.1 rfl (Nat.le_of_ble_eq_true rfl) dX2_ownTouched_46 ⟨Nat.le_refl _, Nat.le_refl _⟩ (fun r H locs hq hS => ?_)
      obtain ⟨rfl, hP⟩ := hq
      refine xk_ciN hAt hK (P := bP D ad ρ σ nw n) hP hA hS (xk_recv (q := (RX1, TX1, 6)) hK (b0 hP) rfl) (As := [.int a, .int (σ 2 i4)]) (rest := []) (b_fitOf l D A ad ρ σ nw n a (σ 2 i4)) ⟨va_cnB 2 hts (lw_meth q280) rfl rfl rfl (xk_nw hK q698 rfl) (hts _ q37) cdX1_fitOf.2 ⟨Nat.le_of_ble_eq_true rfl, Nat.le_of_ble_eq_true rfl⟩, hts _ q279, hts _ qs3⟩ rfl hl.1 rfl (Nat.le_of_ble_eq_true rfl) dX2_ownTouched_49 ⟨Nat.le_refl _, Nat.le_refl _⟩ (fun r H locs hq hS => ?_)
      obtain ⟨rfl, hP⟩ := hq
      refine lv_aload_n hx hb dX2_ownTouched_52 rfl (lv_at hl 2 rfl) ?_
      refine xk_getO hAt hK (b100 hP) (C := RX2) (T := TX2) (N := 7) rfl 6 (by decide) (v := .ref (ad 0)) rfl (hts _ q119) (fun _ h => h) in_X2 dX2_ownTouched_53 ?_
      refine lv_iload_n hx hb dX2_ownTouched_56 rfl (lv_at hl 3 rfl) ?_
      refine lv_aload_n hx hb dX2_ownTouched_57 rfl (lv_at hl 2 rfl) ?_
      refine xk_getO hAt hK (b100 hP) (C := RX2) (T := TX2) (N := 7) rfl 6 (by decide) (v := .ref (ad 0)) rfl (hts _ q119) (fun _ h => h) in_X2 dX2_ownTouched_58 ?_
      refine xk_getN hAt hK (b0 hP) (C := RX1) (T := TX1) (N := 6) rfl 2 (by decide) (v := .ref (ad 7)) rfl q139 (fun _ h => h) in_X1 dX2_ownTouched_61 ?_
      refine lv_iload_n hx hb dX2_ownTouched_64 rfl (lv_at hl 1 rfl) ?_
      refine xk_crF hAt hK (P := bP D ad ρ σ nw n) hP hA hS (xk_recvL hK (bow hP)) (As := [.int (nI ((mk_otR σ a i4).toNatClampNeg))]) (rest := [.int a, .ref (ad 0), .int (mk_fit (σ 0) a (σ 2 i4))]) (al_get l D A (bP D ad ρ σ nw n) (ad 7) (ad 10) (n 0) (fun j => ad (20 + j)) (fun _ h => bow h) ((mk_otR σ a i4).toNatClampNeg) (by omega) (by omega)) (va_cwF 1 hts (xk_lwF q673 q253 q255 q40 q257) rfl rfl rfl hK.2.2.2.1 (by decide +kernel) ⟨Nat.le_of_ble_eq_true rfl, Nat.le_of_ble_eq_true rfl⟩) rfl hl.1 rfl (Nat.le_of_ble_eq_true rfl) dX2_ownTouched_65 ⟨Nat.le_refl _, Nat.le_refl _⟩ (fun r H locs hq hS => ?_)
      have hq : r = ad (20 + (mk_otR σ a i4).toNatClampNeg) ∧ bP D ad ρ σ nw n H := hq
      obtain ⟨rfl, hP⟩ := hq
      refine xk_castX hAt hK (bxo hP ((mk_otR σ a i4).toNatClampNeg) (by omega)) (hts _ q738) dX2_ownTouched_70 ?_
      refine xk_ciV hAt hK (P := bP D ad ρ σ nw n) hP hA hS (xk_recvX hK (bxo hP ((mk_otR σ a i4).toNatClampNeg) (by omega))) (As := []) (rest := [.int a, .ref (ad 0), .int (mk_fit (σ 0) a (σ 2 i4))]) (in_val l D A (bP D ad ρ σ nw n) (ad (20 + (mk_otR σ a i4).toNatClampNeg)) (σ 2 ((mk_otR σ a i4).toNatClampNeg)) (fun _ h => bxo h ((mk_otR σ a i4).toNatClampNeg) (by omega))) (cwV 0 hts (lw_V q739 q270 q271 q49 q272) rfl rfl rfl cdJ9_intValue ⟨Nat.le_of_ble_eq_true rfl, Nat.le_of_ble_eq_true rfl⟩) rfl hl.1 rfl (Nat.le_of_ble_eq_true rfl) dX2_ownTouched_73 ⟨Nat.le_refl _, Nat.le_refl _⟩ (fun r H locs hq hS => ?_)
      obtain ⟨rfl, hP⟩ := hq
      refine xk_ciN hAt hK (P := bP D ad ρ σ nw n) hP hA hS (xk_recv (q := (RX1, TX1, 6)) hK (b0 hP) rfl) (As := [.int a, .int (σ 2 ((mk_otR σ a i4).toNatClampNeg))]) (rest := [.int (mk_fit (σ 0) a (σ 2 i4))]) (b_fitOf l D A ad ρ σ nw n a (σ 2 ((mk_otR σ a i4).toNatClampNeg))) ⟨va_cnB 2 hts (lw_meth q280) rfl rfl rfl (xk_nw hK q698 rfl) (hts _ q37) cdX1_fitOf.2 ⟨Nat.le_of_ble_eq_true rfl, Nat.le_of_ble_eq_true rfl⟩, hts _ q279, hts _ qs3⟩ rfl hl.1 rfl (Nat.le_of_ble_eq_true rfl) dX2_ownTouched_76 ⟨Nat.le_refl _, Nat.le_refl _⟩ (fun r H locs hq hS => ?_)
      obtain ⟨rfl, hP⟩ := hq
      refine lv_icmp_le (tgt := 86) hx hb dX2_ownTouched_79 (by decide) (fun c_7 => ?_) (fun c_7 => ?_)
      · skip
        have hl : lv_has ls 5 [(3, .int (nI i4)), (2, .int (mk_otR σ a i4)), (0, .ref (ad 100)), (1, .int a)] := by rw [hix.1]; exact hl
        refine lv_iconst (v := 0) hx hb dX2_ownTouched_86 (by decide) ?_
        exact J87_3 _ _ _ 0 ((if_neg (fun h => h.elim (fun z => c_2 z) (fun z => (fun h => h c_7) z))).symm) hP hS (lv_sub hl [0, 1, 2, 3] rfl)
      have hl : lv_has ls 5 [(3, .int (nI i4)), (2, .int (mk_otR σ a i4)), (0, .ref (ad 100)), (1, .int a)] := by rw [hix.1]; exact hl
      refine lv_iconst (v := 1) hx hb dX2_ownTouched_82 (by decide) ?_
      refine lv_goto (tgt := 87) hx hb dX2_ownTouched_83 (by decide) ?_
      exact J87_3 _ _ _ 1 ((if_pos (Or.inr c_7)).symm) hP hS (lv_sub hl [0, 1, 2, 3] rfl)
  exact L4 (n 0 + 1) 0 (by omega) (by omega)  _ _ _ (-1) (rfl) hP hS (lv_sub hl [0, 1, 2, 3] rfl)
