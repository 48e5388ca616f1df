/-! THE MODEL's METHODS, walked: those that it keeps to itself, but holes (printed by gen/model.py) -/
set_option maxRecDepth 100000
theorem cdX3_in : yX3_in.cls ≠ "java/lang/invoke/MethodHandle" ∧ yX3_in.cls ≠ "java/lang/invoke/VarHandle" ∧ (parseMethodDescriptor yX3_in.desc).map (fun d => d.parameters.length) = some 3 := by decide +kernel
theorem cdX3_isLetter : yX3_isLetter.cls ≠ "java/lang/invoke/MethodHandle" ∧ yX3_isLetter.cls ≠ "java/lang/invoke/VarHandle" ∧ (parseMethodDescriptor yX3_isLetter.desc).map (fun d => d.parameters.length) = some 1 := by decide +kernel
theorem cdX3_isWord : yX3_isWord.cls ≠ "java/lang/invoke/MethodHandle" ∧ yX3_isWord.cls ≠ "java/lang/invoke/VarHandle" ∧ (parseMethodDescriptor yX3_isWord.desc).map (fun d => d.parameters.length) = some 1 := by decide +kernel
theorem cdX3_letter : yX3_letter.cls ≠ "java/lang/invoke/MethodHandle" ∧ yX3_letter.cls ≠ "java/lang/invoke/VarHandle" ∧ (parseMethodDescriptor yX3_letter.desc).map (fun d => d.parameters.length) = some 2 := by decide +kernel
theorem cdX3_thrown : yX3_thrown.cls = RX3 ∧ yX3_thrown.cls ≠ "java/lang/invoke/MethodHandle" ∧ yX3_thrown.cls ≠ "java/lang/invoke/VarHandle" ∧ (parseMethodDescriptor yX3_thrown.desc).map (fun d => d.parameters.length) = some 0 := by decide +kernel
theorem cdX3_fitOf : yX3_fitOf.cls = RX3 ∧ yX3_fitOf.cls ≠ "java/lang/invoke/MethodHandle" ∧ yX3_fitOf.cls ≠ "java/lang/invoke/VarHandle" ∧ (parseMethodDescriptor yX3_fitOf.desc).map (fun d => d.parameters.length) = some 2 := by decide +kernel
theorem cdX3_touches : yX3_touches.cls = RX3 ∧ yX3_touches.cls ≠ "java/lang/invoke/MethodHandle" ∧ yX3_touches.cls ≠ "java/lang/invoke/VarHandle" ∧ (parseMethodDescriptor yX3_touches.desc).map (fun d => d.parameters.length) = some 2 := by decide +kernel
theorem cdX3_near : yX3_near.cls = RX3 ∧ yX3_near.cls ≠ "java/lang/invoke/MethodHandle" ∧ yX3_near.cls ≠ "java/lang/invoke/VarHandle" ∧ (parseMethodDescriptor yX3_near.desc).map (fun d => d.parameters.length) = some 1 := by decide +kernel
theorem cdX3_isAlive : yX3_isAlive.cls = RX3 ∧ yX3_isAlive.cls ≠ "java/lang/invoke/MethodHandle" ∧ yX3_isAlive.cls ≠ "java/lang/invoke/VarHandle" ∧ (parseMethodDescriptor yX3_isAlive.desc).map (fun d => d.parameters.length) = some 1 := by decide +kernel
theorem cdX3_met : yX3_met.cls = RX3 ∧ yX3_met.cls ≠ "java/lang/invoke/MethodHandle" ∧ yX3_met.cls ≠ "java/lang/invoke/VarHandle" ∧ (parseMethodDescriptor yX3_met.desc).map (fun d => d.parameters.length) = some 1 := by decide +kernel
theorem cdX3_meets : yX3_meets.cls = RX3 ∧ yX3_meets.cls ≠ "java/lang/invoke/MethodHandle" ∧ yX3_meets.cls ≠ "java/lang/invoke/VarHandle" ∧ (parseMethodDescriptor yX3_meets.desc).map (fun d => d.parameters.length) = some 1 := by decide +kernel
theorem cdX3_allInvaders : yX3_allInvaders.cls = RX3 ∧ yX3_allInvaders.cls ≠ "java/lang/invoke/MethodHandle" ∧ yX3_allInvaders.cls ≠ "java/lang/invoke/VarHandle" ∧ (parseMethodDescriptor yX3_allInvaders.desc).map (fun d => d.parameters.length) = some 0 := by decide +kernel
theorem cdX3_sizes : yX3_sizes.cls = RX3 ∧ yX3_sizes.cls ≠ "java/lang/invoke/MethodHandle" ∧ yX3_sizes.cls ≠ "java/lang/invoke/VarHandle" ∧ (parseMethodDescriptor yX3_sizes.desc).map (fun d => d.parameters.length) = some 2 := by decide +kernel
theorem cdX3_remembers : yX3_remembers.cls = RX3 ∧ yX3_remembers.cls ≠ "java/lang/invoke/MethodHandle" ∧ yX3_remembers.cls ≠ "java/lang/invoke/VarHandle" ∧ (parseMethodDescriptor yX3_remembers.desc).map (fun d => d.parameters.length) = some 1 := by decide +kernel
theorem cdX3_grow : yX3_grow.cls = RX3 ∧ yX3_grow.cls ≠ "java/lang/invoke/MethodHandle" ∧ yX3_grow.cls ≠ "java/lang/invoke/VarHandle" ∧ (parseMethodDescriptor yX3_grow.desc).map (fun d => d.parameters.length) = some 0 := by decide +kernel
theorem cdX3_wake : yX3_wake.cls = RX3 ∧ yX3_wake.cls ≠ "java/lang/invoke/MethodHandle" ∧ yX3_wake.cls ≠ "java/lang/invoke/VarHandle" ∧ (parseMethodDescriptor yX3_wake.desc).map (fun d => d.parameters.length) = some 0 := by decide +kernel
theorem cdX3_strikes : yX3_strikes.cls = RX3 ∧ yX3_strikes.cls ≠ "java/lang/invoke/MethodHandle" ∧ yX3_strikes.cls ≠ "java/lang/invoke/VarHandle" ∧ (parseMethodDescriptor yX3_strikes.desc).map (fun d => d.parameters.length) = some 1 := by decide +kernel
theorem cdX3_strike : yX3_strike.cls = RX3 ∧ yX3_strike.cls ≠ "java/lang/invoke/MethodHandle" ∧ yX3_strike.cls ≠ "java/lang/invoke/VarHandle" ∧ (parseMethodDescriptor yX3_strike.desc).map (fun d => d.parameters.length) = some 0 := by decide +kernel
theorem cdX3_isCalmed : yX3_isCalmed.cls = RX3 ∧ yX3_isCalmed.cls ≠ "java/lang/invoke/MethodHandle" ∧ yX3_isCalmed.cls ≠ "java/lang/invoke/VarHandle" ∧ (parseMethodDescriptor yX3_isCalmed.desc).map (fun d => d.parameters.length) = some 1 := by decide +kernel
theorem cdX3_work : yX3_work.cls = RX3 ∧ yX3_work.cls ≠ "java/lang/invoke/MethodHandle" ∧ yX3_work.cls ≠ "java/lang/invoke/VarHandle" ∧ (parseMethodDescriptor yX3_work.desc).map (fun d => d.parameters.length) = some 0 := by decide +kernel
theorem cdX3_harms : yX3_harms.cls = RX3 ∧ yX3_harms.cls ≠ "java/lang/invoke/MethodHandle" ∧ yX3_harms.cls ≠ "java/lang/invoke/VarHandle" ∧ (parseMethodDescriptor yX3_harms.desc).map (fun d => d.parameters.length) = some 0 := by decide +kernel
theorem cdX3_hour : yX3_hour.cls = RX3 ∧ yX3_hour.cls ≠ "java/lang/invoke/MethodHandle" ∧ yX3_hour.cls ≠ "java/lang/invoke/VarHandle" ∧ (parseMethodDescriptor yX3_hour.desc).map (fun d => d.parameters.length) = some 0 := by decide +kernel
theorem cdX3_sumOf : yX3_sumOf.cls = RX3 ∧ yX3_sumOf.cls ≠ "java/lang/invoke/MethodHandle" ∧ yX3_sumOf.cls ≠ "java/lang/invoke/VarHandle" ∧ (parseMethodDescriptor yX3_sumOf.desc).map (fun d => d.parameters.length) = some 1 := by decide +kernel
set_option maxHeartbeats 4000000 in
theorem m_in (l : Launch) (D : xk_G) (A : Nat → Prop) (P : Heap → Prop) (x a b : Int32) : Met l yX3_in (ws_ yX3_in cX3_in 3 (some .boolean)) (xk_R 0 0) (xk_Pre D A P [.int x, .int a, .int b]) (xk_Pi A (fun r H => r = xk_b (mk_in x a b) ∧ P H)) 0 0 A := by
  refine xk_startZ (by decide +kernel) (Nat.le_of_ble_eq_true rfl) (fun r H h => by rw [h.1]; exact xk_b01 _) ?_
  intro p e s m args below meth c Q hAt hin hK hA hP hR ls hl
  obtain ⟨hx, hb, hml, hown, hts⟩ := id hAt
  have hl : lv_has ls 3 [(0, .int x), (1, .int a), (2, .int b)] := hl
  have hS : va_S A s.heap s.heap [] := va_S.rf
  refine lv_iload_n hx hb dX3_in_0 rfl (lv_at hl 0 rfl) ?_
  refine lv_iload_n hx hb dX3_in_1 rfl (lv_at hl 1 rfl) ?_
  have J15_2 : ∀ (H : Heap) (locs : List Loc) (ls : Array Slot) (t0 : Int32), t0 = xk_b (¬ (x < a) ∧ ¬ (b < x)) → P H → va_S A s.heap H locs → lv_has ls 3 [(0, .int x), (1, .int a), (2, .int b)] → W p l e (xk_R 0 0) s m args below meth c H locs 0 0 Q (F0 m 15 ls [.int t0]) := by
    intro H locs ls t0 et0 hP hS hl
    subst et0
    exact hR _ _ _ _ _ dX3_in_15 (⟨rfl, hP⟩) hS
  refine lv_icmp_lt (tgt := 14) hx hb dX3_in_2 (by decide) (fun c_1 => ?_) (fun c_1 => ?_)
  · skip
    refine lv_iconst (v := 0) hx hb dX3_in_14 (by decide) ?_
    exact J15_2 _ _ _ 0 ((if_neg (fun h => h.1 c_1)).symm) hP hS (lv_sub hl [0, 1, 2] rfl)
  refine lv_iload_n hx hb dX3_in_5 rfl (lv_at hl 0 rfl) ?_
  refine lv_iload_n hx hb dX3_in_6 rfl (lv_at hl 2 rfl) ?_
  refine lv_icmp_gt (tgt := 14) hx hb dX3_in_7 (by decide) (fun c_3 => ?_) (fun c_3 => ?_)
  · skip
    refine lv_iconst (v := 0) hx hb dX3_in_14 (by decide) ?_
    exact J15_2 _ _ _ 0 ((if_neg (fun h => (fun h => h c_3) h.2)).symm) hP hS (lv_sub hl [0, 1, 2] rfl)
  refine lv_iconst (v := 1) hx hb dX3_in_10 (by decide) ?_
  refine lv_goto (tgt := 15) hx hb dX3_in_11 (by decide) ?_
  exact J15_2 _ _ _ 1 ((if_pos ⟨c_1, c_3⟩).symm) hP hS (lv_sub hl [0, 1, 2] rfl)
set_option maxHeartbeats 4000000 in
theorem m_isLetter (l : Launch) (D : xk_G) (A : Nat → Prop) (P : Heap → Prop) (x : Int32) : Met l yX3_isLetter (ws_ yX3_isLetter cX3_isLetter 1 (some .boolean)) (xk_R 1 22) (xk_Pre D A P [.int x]) (xk_Pi A (fun r H => r = xk_b (mk_in x 0 3) ∧ P H)) 0 0 A := by
  refine xk_startZ (by decide +kernel) (Nat.le_of_ble_eq_true rfl) (fun r H h => by rw [h.1]; exact xk_b01 _) ?_
  intro p e s m args below meth c Q hAt hin hK hA hP hR ls hl
  obtain ⟨hx, hb, hml, hown, hts⟩ := id hAt
  have hl : lv_has ls 1 [(0, .int x)] := hl
  have hS : va_S A s.heap s.heap [] := va_S.rf
  refine lv_iload_n hx hb dX3_isLetter_0 rfl (lv_at hl 0 rfl) ?_
  refine lv_iconst (v := 0) hx hb dX3_isLetter_1 (by decide) ?_
  refine lv_iconst (v := 3) hx hb dX3_isLetter_2 (by decide) ?_
  refine mk_ciS hAt hK (P := P) hP hA hS (As := [.int x, .int 0, .int 3]) (rest := []) (m_in l D A (P) x 0 3) (va_cwS 3 hts (lw_S q863 q864 q42 q865) rfl rfl rfl cdX3_in ⟨Nat.le_of_ble_eq_true rfl, Nat.le_of_ble_eq_true rfl⟩) rfl hl.1 rfl (Nat.le_of_ble_eq_true rfl) dX3_isLetter_3 ⟨Nat.le_refl _, Nat.le_refl _⟩ (fun r H locs hq hS => ?_)
  obtain ⟨rfl, hP⟩ := hq
  exact hR _ _ _ _ _ dX3_isLetter_6 (⟨rfl, hP⟩) hS
set_option maxHeartbeats 4000000 in
theorem m_isWord (l : Launch) (D : xk_G) (A : Nat → Prop) (P : Heap → Prop) (x : Int32) : Met l yX3_isWord (ws_ yX3_isWord cX3_isWord 1 (some .boolean)) (xk_R 1 22) (xk_Pre D A P [.int x]) (xk_Pi A (fun r H => r = xk_b (mk_in x 0 255) ∧ P H)) 0 0 A := by
  refine xk_startZ (by decide +kernel) (Nat.le_of_ble_eq_true rfl) (fun r H h => by rw [h.1]; exact xk_b01 _) ?_
  intro p e s m args below meth c Q hAt hin hK hA hP hR ls hl
  obtain ⟨hx, hb, hml, hown, hts⟩ := id hAt
  have hl : lv_has ls 1 [(0, .int x)] := hl
  have hS : va_S A s.heap s.heap [] := va_S.rf
  refine lv_iload_n hx hb dX3_isWord_0 rfl (lv_at hl 0 rfl) ?_
  refine lv_iconst (v := 0) hx hb dX3_isWord_1 (by decide) ?_
  refine lv_sipush (v := 255) hx hb dX3_isWord_2 (by decide) ?_
  refine mk_ciS hAt hK (P := P) hP hA hS (As := [.int x, .int 0, .int 255]) (rest := []) (m_in l D A (P) x 0 255) (va_cwS 3 hts (lw_S q863 q864 q42 q865) rfl rfl rfl cdX3_in ⟨Nat.le_of_ble_eq_true rfl, Nat.le_of_ble_eq_true rfl⟩) rfl hl.1 rfl (Nat.le_of_ble_eq_true rfl) dX3_isWord_5 ⟨Nat.le_refl _, Nat.le_refl _⟩ (fun r H locs hq hS => ?_)
  obtain ⟨rfl, hP⟩ := hq
  exact hR _ _ _ _ _ dX3_isWord_8 (⟨rfl, hP⟩) hS
set_option maxHeartbeats 4000000 in
theorem m_letter (l : Launch) (D : xk_G) (A : Nat → Prop) (P : Heap → Prop) (w : Int32) (q : Nat) : Met l yX3_letter (ws_ yX3_letter cX3_letter 2 (some .int)) (xk_R 0 0) (xk_Pre D A P [.int w, .int (nI q)]) (xk_Pi A (fun r H => r = nI (mk_ln w q) ∧ P H)) 0 0 A := by
  refine xk_startI (by decide +kernel) (Nat.le_of_ble_eq_true rfl) ?_
  intro p e s m args below meth c Q hAt hin hK hA hP hR ls hl
  obtain ⟨hx, hb, hml, hown, hts⟩ := id hAt
  have hl : lv_has ls 2 [(0, .int w), (1, .int (nI q))] := hl
  have hS : va_S A s.heap s.heap [] := va_S.rf
  refine lv_iload_n hx hb dX3_letter_0 rfl (lv_at hl 0 rfl) ?_
  refine lv_iconst (v := 2) hx hb dX3_letter_1 (by decide) ?_
  refine lv_iload_n hx hb dX3_letter_2 rfl (lv_at hl 1 rfl) ?_
  refine lv_imul hx hb dX3_letter_3 ?_
  refine xk_to (y := nI (2 * q)) (pk_mul 2 q) ?_
  refine lv_ishr hx hb dX3_letter_4 ?_
  refine lv_iconst (v := 3) hx hb dX3_letter_5 (by decide) ?_
  refine lv_iand hx hb dX3_letter_6 ?_
  exact hR _ _ _ _ _ dX3_letter_7 (⟨mk_ln_eq w q, hP⟩) hS
set_option maxHeartbeats 4000000 in
theorem m_thrown (l : Launch) (D : xk_G) (A : Nat → Prop) (ad : Nat → Nat) (σ : Nat → Nat → Int32) (nw az ir : Nat → Int32) (n : Nat → Nat) (th : Int32) (hJ : mk_ok A ad)  : Met l yX3_thrown (ws_ yX3_thrown cX3_thrown 1 (some .int)) (xk_R 0 0) (xk_Pre D A (mP D ad σ nw az ir n th) [.ref (ad 0)]) (xk_Pi A (fun r H => r = th ∧ mP D ad σ nw az ir n th H)) 0 0 A := by
  refine xk_startI (by decide +kernel) (Nat.le_of_ble_eq_true rfl) ?_
  intro p e s m args below meth c Q hAt hin hK hA hP hR ls hl
  obtain ⟨hx, hb, hml, hown, hts⟩ := id hAt
  have hl : lv_has ls 1 [(0, .ref (ad 0))] := hl
  have hS : va_S A s.heap s.heap [] := va_S.rf
  refine lv_aload_n hx hb dX3_thrown_0 rfl (lv_at hl 0 rfl) ?_
  refine mk_get hAt hK hP 18 (by decide) (v := .int th) rfl (hts _ q808) rfl dX3_thrown_1 ?_
  exact hR _ _ _ _ _ dX3_thrown_4 (⟨rfl, hP⟩) hS
set_option maxHeartbeats 4000000 in
theorem m_fitOf (l : Launch) (D : xk_G) (A : Nat → Prop) (ad : Nat → Nat) (σ : Nat → Nat → Int32) (nw az ir : Nat → Int32) (n : Nat → Nat) (th : Int32) (hJ : mk_ok A ad) (a b : Int32) : Met l yX3_fitOf (ws_ yX3_fitOf cX3_fitOf 5 (some .int)) (xk_R 1 21) (xk_Pre D A (mP D ad σ nw az ir n th) [.ref (ad 0), .int a, .int b]) (xk_Pi A (fun r H => r = mk_fit (σ 0) a b ∧ mP D ad σ nw az ir n th H)) 0 0 A := by
  refine xk_startI (by decide +kernel) (Nat.le_of_ble_eq_true rfl) ?_
  intro p e s m args below meth c Q hAt hin hK hA hP hR ls hl
  obtain ⟨hx, hb, hml, hown, hts⟩ := id hAt
  have hl : lv_has ls 5 [(0, .ref (ad 0)), (1, .int a), (2, .int b)] := hl
  have hS : va_S A s.heap s.heap [] := va_S.rf
  refine lv_iconst (v := 0) hx hb dX3_fitOf_0 (by decide) ?_
  refine lv_istore_n (lv' := [(3, .int 0), (0, .ref (ad 0)), (1, .int a), (2, .int b)]) hx hb dX3_fitOf_1 rfl hl (by decide) rfl (fun ls hl => ?_)
  refine lv_iconst (v := 0) hx hb dX3_fitOf_2 (by decide) ?_
  refine lv_istore (lv' := [(4, .int 0), (3, .int 0), (0, .ref (ad 0)), (1, .int a), (2, .int b)]) hx hb dX3_fitOf_3 hl (by decide) rfl (fun ls hl => ?_)
  have L5 : ∀ (j i5 : Nat), 4 + 1 ≤ i5 + j → i5 ≤ 4 → ∀ (H : Heap) (locs : List Loc) (ls : Array Slot) (v3 : Int32), v3 = mk_fitR (σ 0) a b i5 → mP D ad σ nw az ir n th H → va_S A s.heap H locs → lv_has ls 5 [(4, .int (nI i5)), (3, .int v3), (0, .ref (ad 0)), (1, .int a), (2, .int b)] → W p l e (xk_R 1 21) s m args below meth c H locs 0 0 Q (F0 m 5 ls []) := by
    intro j
    induction j with
    | zero => intro i5 h5a h5b; exact absurd h5a (by omega)
    | succ j ih5 =>
      intro i5 h5a h5b  H locs ls v3 ev3 hP hS hl
      subst ev3
      refine lv_iload hx hb dX3_fitOf_5 (lv_at hl 0 rfl) ?_
      refine lv_iconst (v := 4) hx hb dX3_fitOf_7 (by decide) ?_
      refine mk_ge (tgt := 40) (a := i5) (b := 4) hx hb (by omega) (by omega) dX3_fitOf_8 (by decide) (fun c_1 => ?_) (fun c_1 => ?_)
      · skip
        obtain rfl : i5 = 4 := by omega
        refine lv_iload_n hx hb dX3_fitOf_40 rfl (lv_at hl 1 rfl) ?_
        exact hR _ _ _ _ _ dX3_fitOf_41 (⟨rfl, hP⟩) hS
      have hl1 := mk_ln_lt a i5
      have hl2 := mk_ln_lt b i5
      refine lv_iload_n hx hb dX3_fitOf_11 rfl (lv_at hl 1 rfl) ?_
      refine lv_aload_n hx hb dX3_fitOf_12 rfl (lv_at hl 2 rfl) ?_
      refine mk_get hAt hK hP 0 (by decide) (v := .ref (ad 1)) rfl (hts _ q790) rfl dX3_fitOf_13 ?_
      refine lv_iconst (v := 4) hx hb dX3_fitOf_16 (by decide) ?_
      refine lv_iload_n hx hb dX3_fitOf_17 rfl (lv_at hl 3 rfl) ?_
      refine lv_iload hx hb dX3_fitOf_18 (lv_at hl 0 rfl) ?_
      refine mk_ciS hAt hK (P := mP D ad σ nw az ir n th) hP hA hS (As := [.int a, .int (nI i5)]) (rest := [.int 4, .ref (ad 1), .int (mk_fitR (σ 0) a b i5)]) (m_letter l D A (mP D ad σ nw az ir n th) a i5) (va_cwS 2 hts (lw_S q877 q878 q42 q879) rfl rfl rfl cdX3_letter ⟨Nat.le_of_ble_eq_true rfl, Nat.le_of_ble_eq_true rfl⟩) rfl hl.1 rfl (Nat.le_of_ble_eq_true rfl) dX3_fitOf_20 ⟨Nat.le_refl _, Nat.le_refl _⟩ (fun r H locs hq hS => ?_)
      obtain ⟨rfl, hP⟩ := hq
      refine lv_imul hx hb dX3_fitOf_23 ?_
      refine xk_to (y := nI (4 * mk_ln a i5)) (pk_mul 4 (mk_ln a i5)) ?_
      refine lv_iload_n hx hb dX3_fitOf_24 rfl (lv_at hl 4 rfl) ?_
      refine lv_iload hx hb dX3_fitOf_25 (lv_at hl 0 rfl) ?_
      refine mk_ciS hAt hK (P := mP D ad σ nw az ir n th) hP hA hS (As := [.int b, .int (nI i5)]) (rest := [.int (nI (4 * mk_ln a i5)), .ref (ad 1), .int (mk_fitR (σ 0) a b i5)]) (m_letter l D A (mP D ad σ nw az ir n th) b i5) (va_cwS 2 hts (lw_S q877 q878 q42 q879) rfl rfl rfl cdX3_letter ⟨Nat.le_of_ble_eq_true rfl, Nat.le_of_ble_eq_true rfl⟩) rfl hl.1 rfl (Nat.le_of_ble_eq_true rfl) dX3_fitOf_27 ⟨Nat.le_refl _, Nat.le_refl _⟩ (fun r H locs hq hS => ?_)
      obtain ⟨rfl, hP⟩ := hq
      refine lv_iadd hx hb dX3_fitOf_30 ?_
      refine xk_to (y := nI (4 * mk_ln a i5 + mk_ln b i5)) (nI_add (4 * mk_ln a i5) (mk_ln b i5)) ?_
      refine mk_iald hAt hK hP 1 (f := σ 0) rfl (4 * mk_ln a i5 + mk_ln b i5) (by omega) (by decide) dX3_fitOf_31 ?_
      refine lv_iadd hx hb dX3_fitOf_32 ?_
      refine lv_istore_n (lv' := [(3, .int ((mk_fitR (σ 0) a b i5) + (σ 0 (4 * mk_ln a i5 + mk_ln b i5)))), (4, .int (nI i5)), (0, .ref (ad 0)), (1, .int a), (2, .int b)]) hx hb dX3_fitOf_33 rfl hl (by decide) rfl (fun ls hl => ?_)
      refine lv_iinc (v := nI (i5 + 1)) (lv' := [(4, .int (nI (i5 + 1))), (3, .int ((mk_fitR (σ 0) a b i5) + (σ 0 (4 * mk_ln a i5 + mk_ln b i5)))), (0, .ref (ad 0)), (1, .int a), (2, .int b)]) hx hb dX3_fitOf_34 hl (k := 1) rfl (xk_inc i5) (by decide) rfl (fun ls hl => ?_)
      refine lv_goto (tgt := 5) hx hb dX3_fitOf_37 (by decide) ?_
      exact ih5 (i5 + 1) (by omega) (by omega)  _ _ _ ((mk_fitR (σ 0) a b i5) + (σ 0 (4 * mk_ln a i5 + mk_ln b i5))) (rfl) hP hS (lv_sub hl [0, 1, 2, 3, 4] rfl)
  exact L5 (4 + 1) 0 (by omega) (by omega)  _ _ _ 0 (rfl) hP hS (lv_sub hl [0, 1, 2, 3, 4] rfl)
set_option maxHeartbeats 4000000 in
theorem m_touches (l : Launch) (D : xk_G) (A : Nat → Prop) (ad : Nat → Nat) (σ : Nat → Nat → Int32) (nw az ir : Nat → Int32) (n : Nat → Nat) (th : Int32) (hJ : mk_ok A ad) (a b : Int32) : Met l yX3_touches (ws_ yX3_touches cX3_touches 3 (some .boolean)) (xk_R 2 45) (xk_Pre D A (mP D ad σ nw az ir n th) [.ref (ad 0), .int a, .int b]) (xk_Pi A (fun r H => r = xk_b (mk_tch σ a b) ∧ mP D ad σ nw az ir n th H)) 0 0 A := by
  refine xk_startZ (by decide +kernel) (Nat.le_of_ble_eq_true rfl) (fun r H h => by rw [h.1]; exact xk_b01 _) ?_
  intro p e s m args below meth c Q hAt hin hK hA hP hR ls hl
  obtain ⟨hx, hb, hml, hown, hts⟩ := id hAt
  have hl : lv_has ls 3 [(0, .ref (ad 0)), (1, .int a), (2, .int b)] := hl
  have hS : va_S A s.heap s.heap [] := va_S.rf
  refine lv_aload_n hx hb dX3_touches_0 rfl (lv_at hl 0 rfl) ?_
  refine lv_iload_n hx hb dX3_touches_1 rfl (lv_at hl 1 rfl) ?_
  refine lv_iload_n hx hb dX3_touches_2 rfl (lv_at hl 2 rfl) ?_
  refine mk_ciV hAt hK hP hA hS (As := [.int a, .int b]) (rest := []) (m_fitOf l D A ad σ nw az ir n th hJ a b) (cwV 2 hts (lw_V q873 q875 qs14 q42 q876) rfl rfl rfl cdX3_fitOf ⟨Nat.le_of_ble_eq_true rfl, Nat.le_of_ble_eq_true rfl⟩) rfl hl.1 rfl (Nat.le_of_ble_eq_true rfl) dX3_touches_3 ⟨Nat.le_refl _, Nat.le_refl _⟩ (fun r H locs hq hS => ?_)
  obtain ⟨rfl, hP⟩ := hq
  refine lv_aload_n hx hb dX3_touches_6 rfl (lv_at hl 0 rfl) ?_
  refine mk_get hAt hK hP 1 (by decide) (v := .ref (ad 2)) rfl (hts _ q791) rfl dX3_touches_7 ?_
  refine lv_iconst (v := 0) hx hb dX3_touches_10 (by decide) ?_
  refine mk_iald hAt hK hP 2 (f := σ 1) rfl 0 (by omega) (by decide) dX3_touches_11 ?_
  have J20_2 : ∀ (H : Heap) (locs : List Loc) (ls : Array Slot) (t0 : Int32), t0 = xk_b (¬ (mk_fit (σ 0) a b < σ 1 0)) → mP D ad σ nw az ir n th H → va_S A s.heap H locs → lv_has ls 3 [(0, .ref (ad 0)), (1, .int a), (2, .int b)] → W p l e (xk_R 2 45) s m args below meth c H locs 0 0 Q (F0 m 20 ls [.int t0]) := by
    intro H locs ls t0 et0 hP hS hl
    subst et0
    exact hR _ _ _ _ _ dX3_touches_20 (⟨rfl, hP⟩) hS
  refine lv_icmp_lt (tgt := 19) hx hb dX3_touches_12 (by decide) (fun c_1 => ?_) (fun c_1 => ?_)
  · skip
    refine lv_iconst (v := 0) hx hb dX3_touches_19 (by decide) ?_
    exact J20_2 _ _ _ 0 ((if_neg (fun h => h c_1)).symm) hP hS (lv_sub hl [0, 1, 2] rfl)
  refine lv_iconst (v := 1) hx hb dX3_touches_15 (by decide) ?_
  refine lv_goto (tgt := 20) hx hb dX3_touches_16 (by decide) ?_
  exact J20_2 _ _ _ 1 ((if_pos c_1).symm) hP hS (lv_sub hl [0, 1, 2] rfl)
set_option maxHeartbeats 4000000 in
theorem m_near (l : Launch) (D : xk_G) (A : Nat → Prop) (ad : Nat → Nat) (σ : Nat → Nat → Int32) (nw az ir : Nat → Int32) (n : Nat → Nat) (th : Int32) (hJ : mk_ok A ad) (h0 : n 0 ≤ 8) (a : Int32) : Met l yX3_near (ws_ yX3_near cX3_near 5 (some .int)) (xk_R 2 45) (xk_Pre D A (mP D ad σ nw az ir n th) [.ref (ad 0), .int a]) (xk_Pi A (fun r H => r = mk_near σ n a ∧ mP D ad σ nw az ir n th H)) 0 0 A := by
  refine xk_startI (by decide +kernel) (Nat.le_of_ble_eq_true rfl) ?_
  intro p e s m args below meth c Q hAt hin hK hA hP hR ls hl
  obtain ⟨hx, hb, hml, hown, hts⟩ := id hAt
  have hl : lv_has ls 5 [(0, .ref (ad 0)), (1, .int a)] := hl
  have hS : va_S A s.heap s.heap [] := va_S.rf
  refine lv_iconst (v := 0) hx hb dX3_near_0 (by decide) ?_
  refine lv_istore_n (lv' := [(2, .int 0), (0, .ref (ad 0)), (1, .int a)]) hx hb dX3_near_1 rfl hl (by decide) rfl (fun ls hl => ?_)
  refine lv_iconst (v := 0) hx hb dX3_near_2 (by decide) ?_
  refine lv_istore_n (lv' := [(3, .int 0), (2, .int 0), (0, .ref (ad 0)), (1, .int a)]) hx hb dX3_near_3 rfl hl (by decide) rfl (fun ls hl => ?_)
  have L4 : ∀ (j i4 : Nat), n 0 + 1 ≤ i4 + j → i4 ≤ n 0 → ∀ (H : Heap) (locs : List Loc) (ls : Array Slot) (v2 : Int32), v2 = mk_nearR σ a i4 → mP D ad σ nw az ir n th H → va_S A s.heap H locs → lv_has ls 5 [(3, .int (nI i4)), (2, .int v2), (0, .ref (ad 0)), (1, .int a)] → W p l e (xk_R 2 45) s m args below meth c H locs 0 0 Q (F0 m 4 ls []) := by
    intro j
    induction j with
    | zero => intro i4 h4a h4b; exact absurd h4a (by omega)
    | succ j ih4 =>
      intro i4 h4a h4b  H locs ls v2 ev2 hP hS hl
      subst ev2
      refine lv_iload_n hx hb dX3_near_4 rfl (lv_at hl 0 rfl) ?_
      refine lv_aload_n hx hb dX3_near_5 rfl (lv_at hl 2 rfl) ?_
      refine mk_get hAt hK hP 2 (by decide) (v := .int (nI (n 0))) rfl (hts _ q792) rfl dX3_near_6 ?_
      refine mk_ge (tgt := 44) (a := i4) (b := n 0) hx hb (by omega) (by omega) dX3_near_9 (by decide) (fun c_1 => ?_) (fun c_1 => ?_)
      · skip
        obtain rfl : i4 = n 0 := by omega
        refine lv_iload_n hx hb dX3_near_44 rfl (lv_at hl 1 rfl) ?_
        exact hR _ _ _ _ _ dX3_near_45 (⟨rfl, hP⟩) hS
      refine lv_aload_n hx hb dX3_near_12 rfl (lv_at hl 2 rfl) ?_
      refine lv_iload_n hx hb dX3_near_13 rfl (lv_at hl 3 rfl) ?_
      refine lv_aload_n hx hb dX3_near_14 rfl (lv_at hl 2 rfl) ?_
      refine mk_get hAt hK hP 3 (by decide) (v := .ref (ad 3)) rfl (hts _ q793) rfl dX3_near_15 ?_
      refine lv_iload_n hx hb dX3_near_18 rfl (lv_at hl 0 rfl) ?_
      refine mk_iald hAt hK hP 3 (f := σ 2) rfl i4 (by omega) (by decide) dX3_near_19 ?_
      refine mk_ciV hAt hK hP hA hS (As := [.int a, .int (σ 2 i4)]) (rest := []) (m_fitOf l D A ad σ nw az ir n th hJ a (σ 2 i4)) (cwV 2 hts (lw_V q873 q875 qs14 q42 q876) rfl rfl rfl cdX3_fitOf ⟨Nat.le_of_ble_eq_true rfl, Nat.le_of_ble_eq_true rfl⟩) rfl hl.1 rfl (Nat.le_of_ble_eq_true rfl) dX3_near_20 ⟨Nat.le_refl _, Nat.le_refl _⟩ (fun r H locs hq hS => ?_)
      obtain ⟨rfl, hP⟩ := hq
      refine lv_istore (lv' := [(4, .int (mk_fit (σ 0) a (σ 2 i4))), (3, .int (nI i4)), (2, .int (mk_nearR σ a i4)), (0, .ref (ad 0)), (1, .int a)]) hx hb dX3_near_23 hl (by decide) rfl (fun ls hl => ?_)
      refine lv_iload hx hb dX3_near_25 (lv_at hl 0 rfl) ?_
      refine lv_iload_n hx hb dX3_near_27 rfl (lv_at hl 2 rfl) ?_
      have J37_3 : ∀ (H : Heap) (locs : List Loc) (ls : Array Slot) (t0 : Int32), t0 = (if mk_fit (σ 0) a (σ 2 i4) ≤ mk_nearR σ a i4 then mk_nearR σ a i4 else mk_fit (σ 0) a (σ 2 i4)) → mP D ad σ nw az ir n th H → va_S A s.heap H locs → lv_has ls 5 [(4, .int (mk_fit (σ 0) a (σ 2 i4))), (3, .int (nI i4)), (2, .int (mk_nearR σ a i4)), (0, .ref (ad 0)), (1, .int a)] → W p l e (xk_R 2 45) s m args below meth c H locs 0 0 Q (F0 m 37 ls [.int t0]) := by
        intro H locs ls t0 et0 hP hS hl
        subst et0
        refine lv_istore_n (lv' := [(2, .int (if mk_fit (σ 0) a (σ 2 i4) ≤ mk_nearR σ a i4 then mk_nearR σ a i4 else mk_fit (σ 0) a (σ 2 i4))), (4, .int (mk_fit (σ 0) a (σ 2 i4))), (3, .int (nI i4)), (0, .ref (ad 0)), (1, .int a)]) hx hb dX3_near_37 rfl hl (by decide) rfl (fun ls hl => ?_)
        refine lv_iinc (v := nI (i4 + 1)) (lv' := [(3, .int (nI (i4 + 1))), (2, .int (if mk_fit (σ 0) a (σ 2 i4) ≤ mk_nearR σ a i4 then mk_nearR σ a i4 else mk_fit (σ 0) a (σ 2 i4))), (4, .int (mk_fit (σ 0) a (σ 2 i4))), (0, .ref (ad 0)), (1, .int a)]) hx hb dX3_near_38 hl (k := 2) rfl (xk_inc i4) (by decide) rfl (fun ls hl => ?_)
        refine lv_goto (tgt := 4) hx hb dX3_near_41 (by decide) ?_
        exact ih4 (i4 + 1) (by omega) (by omega)  _ _ _ (if mk_fit (σ 0) a (σ 2 i4) ≤ mk_nearR σ a i4 then mk_nearR σ a i4 else mk_fit (σ 0) a (σ 2 i4)) (rfl) hP hS (lv_sub hl [0, 1, 3, 4] rfl)
      refine lv_icmp_le (tgt := 36) hx hb dX3_near_28 (by decide) (fun c_2 => ?_) (fun c_2 => ?_)
      · skip
        refine lv_iload_n hx hb dX3_near_36 rfl (lv_at hl 2 rfl) ?_
        exact J37_3 _ _ _ (mk_nearR σ a i4) ((if_pos c_2).symm) hP hS (lv_sub hl [0, 1, 2, 3, 4] rfl)
      refine lv_iload hx hb dX3_near_31 (lv_at hl 0 rfl) ?_
      refine lv_goto (tgt := 37) hx hb dX3_near_33 (by decide) ?_
      exact J37_3 _ _ _ (mk_fit (σ 0) a (σ 2 i4)) ((if_neg c_2).symm) hP hS (lv_sub hl [0, 1, 2, 3, 4] rfl)
  exact L4 (n 0 + 1) 0 (by omega) (by omega)  _ _ _ 0 (rfl) hP hS (lv_sub hl [0, 1, 2, 3] rfl)
set_option maxHeartbeats 4000000 in
theorem m_isAlive (l : Launch) (D : xk_G) (A : Nat → Prop) (ad : Nat → Nat) (σ : Nat → Nat → Int32) (nw az ir : Nat → Int32) (n : Nat → Nat) (th : Int32) (hJ : mk_ok A ad) (k : Nat) (hk : k < 8) : Met l yX3_isAlive (ws_ yX3_isAlive cX3_isAlive 2 (some .boolean)) (xk_R 0 0) (xk_Pre D A (mP D ad σ nw az ir n th) [.ref (ad 0), .int (nI k)]) (xk_Pi A (fun r H => r = xk_b (mk_al nw k) ∧ mP D ad σ nw az ir n th H)) 0 0 A := by
  refine xk_startZ (by decide +kernel) (Nat.le_of_ble_eq_true rfl) (fun r H h => by rw [h.1]; exact xk_b01 _) ?_
  intro p e s m args below meth c Q hAt hin hK hA hP hR ls hl
  obtain ⟨hx, hb, hml, hown, hts⟩ := id hAt
  have hl : lv_has ls 2 [(0, .ref (ad 0)), (1, .int (nI k))] := hl
  have hS : va_S A s.heap s.heap [] := va_S.rf
  refine lv_aload_n hx hb dX3_isAlive_0 rfl (lv_at hl 0 rfl) ?_
  refine mk_get hAt hK hP 16 (by decide) (v := .ref (ad 12)) rfl (hts _ q806) rfl dX3_isAlive_1 ?_
  refine lv_bipush (v := 120) hx hb dX3_isAlive_4 (by decide) ?_
  refine lv_iload_n hx hb dX3_isAlive_6 rfl (lv_at hl 1 rfl) ?_
  refine lv_iadd hx hb dX3_isAlive_7 ?_
  refine xk_to (y := nI (120 + k)) (nI_add 120 k) ?_
  refine mk_iald hAt hK hP 12 (f := nw) rfl (120 + k) (by omega) (by decide) dX3_isAlive_8 ?_
  have J17_2 : ∀ (H : Heap) (locs : List Loc) (ls : Array Slot) (t0 : Int32), t0 = xk_b (¬ (nw (120 + k) ≤ 0)) → mP D ad σ nw az ir n th H → va_S A s.heap H locs → lv_has ls 2 [(0, .ref (ad 0)), (1, .int (nI k))] → W p l e (xk_R 0 0) s m args below meth c H locs 0 0 Q (F0 m 17 ls [.int t0]) := by
    intro H locs ls t0 et0 hP hS hl
    subst et0
    exact hR _ _ _ _ _ dX3_isAlive_17 (⟨rfl, hP⟩) hS
  refine lv_if_le (tgt := 16) hx hb dX3_isAlive_9 (by decide) (fun c_1 => ?_) (fun c_1 => ?_)
  · skip
    refine lv_iconst (v := 0) hx hb dX3_isAlive_16 (by decide) ?_
    exact J17_2 _ _ _ 0 ((if_neg (fun h => h c_1)).symm) hP hS (lv_sub hl [0, 1] rfl)
  refine lv_iconst (v := 1) hx hb dX3_isAlive_12 (by decide) ?_
  refine lv_goto (tgt := 17) hx hb dX3_isAlive_13 (by decide) ?_
  exact J17_2 _ _ _ 1 ((if_pos c_1).symm) hP hS (lv_sub hl [0, 1] rfl)
set_option maxHeartbeats 4000000 in
theorem m_met (l : Launch) (D : xk_G) (A : Nat → Prop) (ad : Nat → Nat) (σ : Nat → Nat → Int32) (nw az ir : Nat → Int32) (n : Nat → Nat) (th : Int32) (hJ : mk_ok A ad) (h4 : n 4 ≤ 8) (k : Nat) (hk : k < 40) : Met l yX3_met (ws_ yX3_met cX3_met 5 (some .int)) (xk_R 3 67) (xk_Pre D A (mP D ad σ nw az ir n th) [.ref (ad 0), .int (nI k)]) (xk_Pi A (fun r H => r = mk_met σ nw n (σ 6 k) ∧ mP D ad σ nw az ir n th H)) 0 0 A := by
  refine xk_startI (by decide +kernel) (Nat.le_of_ble_eq_true rfl) ?_
  intro p e s m args below meth c Q hAt hin hK hA hP hR ls hl
  obtain ⟨hx, hb, hml, hown, hts⟩ := id hAt
  have hl : lv_has ls 5 [(0, .ref (ad 0)), (1, .int (nI k))] := hl
  have hS : va_S A s.heap s.heap [] := va_S.rf
  refine lv_iconst (v := (-1)) hx hb dX3_met_0 (by decide) ?_
  refine lv_istore_n (lv' := [(2, .int (-1)), (0, .ref (ad 0)), (1, .int (nI k))]) hx hb dX3_met_1 rfl hl (by decide) rfl (fun ls hl => ?_)
  refine lv_iconst (v := 0) hx hb dX3_met_2 (by decide) ?_
  refine lv_istore_n (lv' := [(3, .int 0), (2, .int (-1)), (0, .ref (ad 0)), (1, .int (nI k))]) hx hb dX3_met_3 rfl hl (by decide) rfl (fun ls hl => ?_)
  have L4 : ∀ (j i4 : Nat), n 4 + 1 ≤ i4 + j → i4 ≤ n 4 → ∀ (H : Heap) (locs : List Loc) (ls : Array Slot) (v2 : Int32), v2 = mk_metR σ nw (σ 6 k) i4 → mP D ad σ nw az ir n th H → va_S A s.heap H locs → lv_has ls 5 [(3, .int (nI i4)), (2, .int v2), (0, .ref (ad 0)), (1, .int (nI k))] → W p l e (xk_R 3 67) s m args below meth c H locs 0 0 Q (F0 m 4 ls []) := by
    intro j
    induction j with
    | zero => intro i4 h4a h4b; exact absurd h4a (by omega)
    | succ j ih4 =>
      intro i4 h4a h4b  H locs ls v2 ev2 hP hS hl
      subst ev2
      refine lv_iload_n hx hb dX3_met_4 rfl (lv_at hl 0 rfl) ?_
      refine lv_aload_n hx hb dX3_met_5 rfl (lv_at hl 2 rfl) ?_
      refine mk_get hAt hK hP 13 (by decide) (v := .int (nI (n 4))) rfl (hts _ q803) rfl dX3_met_6 ?_
      refine mk_ge (tgt := 103) (a := i4) (b := n 4) hx hb (by omega) (by omega) dX3_met_9 (by decide) (fun c_1 => ?_) (fun c_1 => ?_)
      · skip
        obtain rfl : i4 = n 4 := by omega
        refine lv_iload_n hx hb dX3_met_103 rfl (lv_at hl 1 rfl) ?_
        exact hR _ _ _ _ _ dX3_met_104 (⟨rfl, hP⟩) hS
      refine lv_aload_n hx hb dX3_met_12 rfl (lv_at hl 2 rfl) ?_
      refine lv_iload_n hx hb dX3_met_13 rfl (lv_at hl 0 rfl) ?_
      refine mk_ciV hAt hK hP hA hS (As := [.int (nI i4)]) (rest := []) (m_isAlive l D A ad σ nw az ir n th hJ i4 (by omega)) (cwV 1 hts (lw_V q932 q934 qs17 q42 q935) rfl rfl rfl cdX3_isAlive ⟨Nat.le_of_ble_eq_true rfl, Nat.le_of_ble_eq_true rfl⟩) rfl hl.1 rfl (Nat.le_of_ble_eq_true rfl) dX3_met_14 ⟨Nat.le_refl _, Nat.le_refl _⟩ (fun r H locs hq hS => ?_)
      obtain ⟨rfl, hP⟩ := hq
      have J44_3 : ∀ (H : Heap) (locs : List Loc) (ls : Array Slot) (t0 : Int32), t0 = xk_b (mk_al nw i4 ∧ mk_tch σ (σ 6 k) (σ 9 i4)) → mP D ad σ nw az ir n th H → va_S A s.heap H locs → lv_has ls 5 [(3, .int (nI i4)), (2, .int (mk_metR σ nw (σ 6 k) i4)), (0, .ref (ad 0)), (1, .int (nI k))] → W p l e (xk_R 3 67) s m args below meth c H locs 0 0 Q (F0 m 44 ls [.int t0]) := by
        intro H locs ls t0 et0 hP hS hl
        subst et0
        refine lv_istore (lv' := [(4, .int (xk_b (mk_al nw i4 ∧ mk_tch σ (σ 6 k) (σ 9 i4)))), (3, .int (nI i4)), (2, .int (mk_metR σ nw (σ 6 k) i4)), (0, .ref (ad 0)), (1, .int (nI k))]) hx hb dX3_met_44 hl (by decide) rfl (fun ls hl => ?_)
        refine lv_iload hx hb dX3_met_46 (lv_at hl 0 rfl) ?_
        have J96_5 : ∀ (H : Heap) (locs : List Loc) (ls : Array Slot) (t0 : Int32), t0 = (if mk_al nw i4 ∧ mk_tch σ (σ 6 k) (σ 9 i4) then (if mk_metR σ nw (σ 6 k) i4 = (-1) then nI i4 else (if mk_fit (σ 0) (σ 6 k) (σ 9 i4) ≤ mk_fit (σ 0) (σ 6 k) (σ 9 (mk_metR σ nw (σ 6 k) i4).toNatClampNeg) then mk_metR σ nw (σ 6 k) i4 else nI i4)) else mk_metR σ nw (σ 6 k) i4) → mP D ad σ nw az ir n th H → va_S A s.heap H locs → lv_has ls 5 [(4, .int (xk_b (mk_al nw i4 ∧ mk_tch σ (σ 6 k) (σ 9 i4)))), (3, .int (nI i4)), (2, .int (mk_metR σ nw (σ 6 k) i4)), (0, .ref (ad 0)), (1, .int (nI k))] → W p l e (xk_R 3 67) s m args below meth c H locs 0 0 Q (F0 m 96 ls [.int t0]) := by
          intro H locs ls t0 et0 hP hS hl
          subst et0
          refine lv_istore_n (lv' := [(2, .int (if mk_al nw i4 ∧ mk_tch σ (σ 6 k) (σ 9 i4) then (if mk_metR σ nw (σ 6 k) i4 = (-1) then nI i4 else (if mk_fit (σ 0) (σ 6 k) (σ 9 i4) ≤ mk_fit (σ 0) (σ 6 k) (σ 9 (mk_metR σ nw (σ 6 k) i4).toNatClampNeg) then mk_metR σ nw (σ 6 k) i4 else nI i4)) else mk_metR σ nw (σ 6 k) i4)), (4, .int (xk_b (mk_al nw i4 ∧ mk_tch σ (σ 6 k) (σ 9 i4)))), (3, .int (nI i4)), (0, .ref (ad 0)), (1, .int (nI k))]) hx hb dX3_met_96 rfl hl (by decide) rfl (fun ls hl => ?_)
          refine lv_iinc (v := nI (i4 + 1)) (lv' := [(3, .int (nI (i4 + 1))), (2, .int (if mk_al nw i4 ∧ mk_tch σ (σ 6 k) (σ 9 i4) then (if mk_metR σ nw (σ 6 k) i4 = (-1) then nI i4 else (if mk_fit (σ 0) (σ 6 k) (σ 9 i4) ≤ mk_fit (σ 0) (σ 6 k) (σ 9 (mk_metR σ nw (σ 6 k) i4).toNatClampNeg) then mk_metR σ nw (σ 6 k) i4 else nI i4)) else mk_metR σ nw (σ 6 k) i4)), (4, .int (xk_b (mk_al nw i4 ∧ mk_tch σ (σ 6 k) (σ 9 i4)))), (0, .ref (ad 0)), (1, .int (nI k))]) hx hb dX3_met_97 hl (k := 2) rfl (xk_inc i4) (by decide) rfl (fun ls hl => ?_)
          refine lv_goto (tgt := 4) hx hb dX3_met_100 (by decide) ?_
          exact ih4 (i4 + 1) (by omega) (by omega)  _ _ _ (if mk_al nw i4 ∧ mk_tch σ (σ 6 k) (σ 9 i4) then (if mk_metR σ nw (σ 6 k) i4 = (-1) then nI i4 else (if mk_fit (σ 0) (σ 6 k) (σ 9 i4) ≤ mk_fit (σ 0) (σ 6 k) (σ 9 (mk_metR σ nw (σ 6 k) i4).toNatClampNeg) then mk_metR σ nw (σ 6 k) i4 else nI i4)) else mk_metR σ nw (σ 6 k) i4) (rfl) hP hS (lv_sub hl [0, 1, 3, 4] rfl)
        refine xk_ifeq (tgt := 95) hx hb dX3_met_48 (by decide) (fun c_4 => ?_) (fun c_4 => ?_)
        · skip
          refine lv_iload_n hx hb dX3_met_95 rfl (lv_at hl 2 rfl) ?_
          exact J96_5 _ _ _ (mk_metR σ nw (σ 6 k) i4) ((if_neg c_4).symm) hP hS (lv_sub hl [0, 1, 2, 3, 4] rfl)
        refine lv_iload_n hx hb dX3_met_51 rfl (lv_at hl 2 rfl) ?_
        refine lv_iconst (v := (-1)) hx hb dX3_met_52 (by decide) ?_
        refine lv_icmp_eq (tgt := 91) hx hb dX3_met_53 (by decide) (fun c_6 => ?_) (fun c_6 => ?_)
        · skip
          refine lv_iload_n hx hb dX3_met_91 rfl (lv_at hl 1 rfl) ?_
          refine lv_goto (tgt := 96) hx hb dX3_met_92 (by decide) ?_
          exact J96_5 _ _ _ (nI i4) (((if_pos c_6).symm).trans (if_pos c_4).symm) hP hS (lv_sub hl [0, 1, 2, 3, 4] rfl)
        have hix := mk_ix_of (by omega) (mk_metR_ix σ nw (σ 6 k) i4) c_6
        refine lv_aload_n hx hb dX3_met_56 rfl (lv_at hl 3 rfl) ?_
        refine lv_aload_n hx hb dX3_met_57 rfl (lv_at hl 3 rfl) ?_
        refine mk_get hAt hK hP 10 (by decide) (v := .ref (ad 7)) rfl (hts _ q800) rfl dX3_met_58 ?_
        refine lv_iload_n hx hb dX3_met_61 rfl (lv_at hl 4 rfl) ?_
        refine mk_iald hAt hK hP 7 (f := σ 6) rfl k (by omega) (by decide) dX3_met_62 ?_
        refine lv_aload_n hx hb dX3_met_63 rfl (lv_at hl 3 rfl) ?_
        refine mk_get hAt hK hP 14 (by decide) (v := .ref (ad 10)) rfl (hts _ q804) rfl dX3_met_64 ?_
        refine lv_iload_n hx hb dX3_met_67 rfl (lv_at hl 1 rfl) ?_
        refine mk_iald hAt hK hP 10 (f := σ 9) rfl i4 (by omega) (by decide) dX3_met_68 ?_
        refine mk_ciV hAt hK hP hA hS (As := [.int (σ 6 k), .int (σ 9 i4)]) (rest := []) (m_fitOf l D A ad σ nw az ir n th hJ (σ 6 k) (σ 9 i4)) (cwV 2 hts (lw_V q873 q875 qs14 q42 q876) rfl rfl rfl cdX3_fitOf ⟨Nat.le_of_ble_eq_true rfl, Nat.le_of_ble_eq_true rfl⟩) rfl hl.1 rfl (Nat.le_of_ble_eq_true rfl) dX3_met_69 ⟨Nat.le_refl _, Nat.le_refl _⟩ (fun r H locs hq hS => ?_)
        obtain ⟨rfl, hP⟩ := hq
        refine lv_aload_n hx hb dX3_met_72 rfl (lv_at hl 3 rfl) ?_
        refine lv_aload_n hx hb dX3_met_73 rfl (lv_at hl 3 rfl) ?_
        refine mk_get hAt hK hP 10 (by decide) (v := .ref (ad 7)) rfl (hts _ q800) rfl dX3_met_74 ?_
        refine lv_iload_n hx hb dX3_met_77 rfl (lv_at hl 4 rfl) ?_
        refine mk_iald hAt hK hP 7 (f := σ 6) rfl k (by omega) (by decide) dX3_met_78 ?_
        refine lv_aload_n hx hb dX3_met_79 rfl (lv_at hl 3 rfl) ?_
        refine mk_get hAt hK hP 14 (by decide) (v := .ref (ad 10)) rfl (hts _ q804) rfl dX3_met_80 ?_
        refine lv_iload_n hx hb dX3_met_83 rfl (lv_at hl 2 rfl) ?_
        refine mk_ialdx hAt hK hP 10 (f := σ 9) rfl (vp_in_mono hix.2.2 (by omega)) dX3_met_84 ?_
        refine mk_ciV hAt hK hP hA hS (As := [.int (σ 6 k), .int (σ 9 (mk_metR σ nw (σ 6 k) i4).toNatClampNeg)]) (rest := [.int (mk_fit (σ 0) (σ 6 k) (σ 9 i4))]) (m_fitOf l D A ad σ nw az ir n th hJ (σ 6 k) (σ 9 (mk_metR σ nw (σ 6 k) i4).toNatClampNeg)) (cwV 2 hts (lw_V q873 q875 qs14 q42 q876) rfl rfl rfl cdX3_fitOf ⟨Nat.le_of_ble_eq_true rfl, Nat.le_of_ble_eq_true rfl⟩) rfl hl.1 rfl (Nat.le_of_ble_eq_true rfl) dX3_met_85 ⟨Nat.le_refl _, Nat.le_refl _⟩ (fun r H locs hq hS => ?_)
        obtain ⟨rfl, hP⟩ := hq
        refine lv_icmp_le (tgt := 95) hx hb dX3_met_88 (by decide) (fun c_7 => ?_) (fun c_7 => ?_)
        · skip
          refine lv_iload_n hx hb dX3_met_95 rfl (lv_at hl 2 rfl) ?_
          exact J96_5 _ _ _ (mk_metR σ nw (σ 6 k) i4) ((((if_pos c_7).symm).trans (if_neg c_6).symm).trans (if_pos c_4).symm) hP hS (lv_sub hl [0, 1, 2, 3, 4] rfl)
        refine lv_iload_n hx hb dX3_met_91 rfl (lv_at hl 1 rfl) ?_
        refine lv_goto (tgt := 96) hx hb dX3_met_92 (by decide) ?_
        exact J96_5 _ _ _ (nI i4) ((((if_neg c_7).symm).trans (if_neg c_6).symm).trans (if_pos c_4).symm) hP hS (lv_sub hl [0, 1, 2, 3, 4] rfl)
      refine xk_ifeq (tgt := 43) hx hb dX3_met_17 (by decide) (fun c_2 => ?_) (fun c_2 => ?_)
      · skip
        refine lv_iconst (v := 0) hx hb dX3_met_43 (by decide) ?_
        exact J44_3 _ _ _ 0 ((if_neg (fun h => c_2 h.1)).symm) hP hS (lv_sub hl [0, 1, 2, 3] rfl)
      refine lv_aload_n hx hb dX3_met_20 rfl (lv_at hl 2 rfl) ?_
      refine lv_aload_n hx hb dX3_met_21 rfl (lv_at hl 2 rfl) ?_
      refine mk_get hAt hK hP 10 (by decide) (v := .ref (ad 7)) rfl (hts _ q800) rfl dX3_met_22 ?_
      refine lv_iload_n hx hb dX3_met_25 rfl (lv_at hl 3 rfl) ?_
      refine mk_iald hAt hK hP 7 (f := σ 6) rfl k (by omega) (by decide) dX3_met_26 ?_
      refine lv_aload_n hx hb dX3_met_27 rfl (lv_at hl 2 rfl) ?_
      refine mk_get hAt hK hP 14 (by decide) (v := .ref (ad 10)) rfl (hts _ q804) rfl dX3_met_28 ?_
      refine lv_iload_n hx hb dX3_met_31 rfl (lv_at hl 0 rfl) ?_
      refine mk_iald hAt hK hP 10 (f := σ 9) rfl i4 (by omega) (by decide) dX3_met_32 ?_
      refine mk_ciV hAt hK hP hA hS (As := [.int (σ 6 k), .int (σ 9 i4)]) (rest := []) (m_touches l D A ad σ nw az ir n th hJ (σ 6 k) (σ 9 i4)) (cwV 2 hts (lw_V q944 q946 qs18 q42 q947) rfl rfl rfl cdX3_touches ⟨Nat.le_of_ble_eq_true rfl, Nat.le_of_ble_eq_true rfl⟩) rfl hl.1 rfl (Nat.le_of_ble_eq_true rfl) dX3_met_33 ⟨Nat.le_refl _, Nat.le_refl _⟩ (fun r H locs hq hS => ?_)
      obtain ⟨rfl, hP⟩ := hq
      refine xk_ifeq (tgt := 43) hx hb dX3_met_36 (by decide) (fun c_8 => ?_) (fun c_8 => ?_)
      · skip
        refine lv_iconst (v := 0) hx hb dX3_met_43 (by decide) ?_
        exact J44_3 _ _ _ 0 ((if_neg (fun h => c_8 h.2)).symm) hP hS (lv_sub hl [0, 1, 2, 3] rfl)
      refine lv_iconst (v := 1) hx hb dX3_met_39 (by decide) ?_
      refine lv_goto (tgt := 44) hx hb dX3_met_40 (by decide) ?_
      exact J44_3 _ _ _ 1 ((if_pos ⟨c_2, c_8⟩).symm) hP hS (lv_sub hl [0, 1, 2, 3] rfl)
  exact L4 (n 4 + 1) 0 (by omega) (by omega)  _ _ _ (-1) (rfl) hP hS (lv_sub hl [0, 1, 2, 3] rfl)
set_option maxHeartbeats 4000000 in
theorem m_meets (l : Launch) (D : xk_G) (A : Nat → Prop) (ad : Nat → Nat) (σ : Nat → Nat → Int32) (nw az ir : Nat → Int32) (n : Nat → Nat) (th : Int32) (hJ : mk_ok A ad) (h4 : n 4 ≤ 8) (k : Nat) (hk : k < 40) : Met l yX3_meets (ws_ yX3_meets cX3_meets 2 (some .boolean)) (xk_R 4 91) (xk_Pre D A (mP D ad σ nw az ir n th) [.ref (ad 0), .int (nI k)]) (xk_Pi A (fun r H => r = xk_b (mk_mts σ nw n (σ 6 k)) ∧ mP D ad σ nw az ir n th H)) 0 0 A := by
  refine xk_startZ (by decide +kernel) (Nat.le_of_ble_eq_true rfl) (fun r H h => by rw [h.1]; exact xk_b01 _) ?_
  intro p e s m args below meth c Q hAt hin hK hA hP hR ls hl
  obtain ⟨hx, hb, hml, hown, hts⟩ := id hAt
  have hl : lv_has ls 2 [(0, .ref (ad 0)), (1, .int (nI k))] := hl
  have hS : va_S A s.heap s.heap [] := va_S.rf
  refine lv_aload_n hx hb dX3_meets_0 rfl (lv_at hl 0 rfl) ?_
  refine lv_iload_n hx hb dX3_meets_1 rfl (lv_at hl 1 rfl) ?_
  refine mk_ciV hAt hK hP hA hS (As := [.int (nI k)]) (rest := []) (m_met l D A ad σ nw az ir n th hJ (by assumption) k (by omega)) (cwV 1 hts (lw_V q972 q974 qs24 q42 q975) rfl rfl rfl cdX3_met ⟨Nat.le_of_ble_eq_true rfl, Nat.le_of_ble_eq_true rfl⟩) rfl hl.1 rfl (Nat.le_of_ble_eq_true rfl) dX3_meets_2 ⟨Nat.le_refl _, Nat.le_refl _⟩ (fun r H locs hq hS => ?_)
  obtain ⟨rfl, hP⟩ := hq
  refine lv_iconst (v := (-1)) hx hb dX3_meets_5 (by decide) ?_
  have J14_2 : ∀ (H : Heap) (locs : List Loc) (ls : Array Slot) (t0 : Int32), t0 = xk_b (¬ (mk_met σ nw n (σ 6 k) = (-1))) → mP D ad σ nw az ir n th H → va_S A s.heap H locs → lv_has ls 2 [(0, .ref (ad 0)), (1, .int (nI k))] → W p l e (xk_R 4 91) s m args below meth c H locs 0 0 Q (F0 m 14 ls [.int t0]) := by
    intro H locs ls t0 et0 hP hS hl
    subst et0
    exact hR _ _ _ _ _ dX3_meets_14 (⟨rfl, hP⟩) hS
  refine lv_icmp_eq (tgt := 13) hx hb dX3_meets_6 (by decide) (fun c_1 => ?_) (fun c_1 => ?_)
  · skip
    refine lv_iconst (v := 0) hx hb dX3_meets_13 (by decide) ?_
    exact J14_2 _ _ _ 0 ((if_neg (fun h => h c_1)).symm) hP hS (lv_sub hl [0, 1] rfl)
  refine lv_iconst (v := 1) hx hb dX3_meets_9 (by decide) ?_
  refine lv_goto (tgt := 14) hx hb dX3_meets_10 (by decide) ?_
  exact J14_2 _ _ _ 1 ((if_pos c_1).symm) hP hS (lv_sub hl [0, 1] rfl)
set_option maxHeartbeats 4000000 in
theorem m_allInvaders (l : Launch) (D : xk_G) (A : Nat → Prop) (ad : Nat → Nat) (σ : Nat → Nat → Int32) (nw az ir : Nat → Int32) (n : Nat → Nat) (th : Int32) (hJ : mk_ok A ad) (h4 : n 4 ≤ 8) : Met l yX3_allInvaders (ws_ yX3_allInvaders cX3_allInvaders 3 (some .int)) (xk_R 0 0) (xk_Pre D A (mP D ad σ nw az ir n th) [.ref (ad 0)]) (xk_Pi A (fun r H => r = mk_sumI nw (n 4) ∧ mP D ad σ nw az ir n th H)) 0 0 A := by
  refine xk_startI (by decide +kernel) (Nat.le_of_ble_eq_true rfl) ?_
  intro p e s m args below meth c Q hAt hin hK hA hP hR ls hl
  obtain ⟨hx, hb, hml, hown, hts⟩ := id hAt
  have hl : lv_has ls 3 [(0, .ref (ad 0))] := hl
  have hS : va_S A s.heap s.heap [] := va_S.rf
  refine lv_iconst (v := 0) hx hb dX3_allInvaders_0 (by decide) ?_
  refine lv_istore_n (lv' := [(1, .int 0), (0, .ref (ad 0))]) hx hb dX3_allInvaders_1 rfl hl (by decide) rfl (fun ls hl => ?_)
  refine lv_iconst (v := 0) hx hb dX3_allInvaders_2 (by decide) ?_
  refine lv_istore_n (lv' := [(2, .int 0), (1, .int 0), (0, .ref (ad 0))]) hx hb dX3_allInvaders_3 rfl hl (by decide) rfl (fun ls hl => ?_)
  have L4 : ∀ (j i4 : Nat), n 4 + 1 ≤ i4 + j → i4 ≤ n 4 → ∀ (H : Heap) (locs : List Loc) (ls : Array Slot) (v1 : Int32), v1 = mk_sumI nw i4 → mP D ad σ nw az ir n th H → va_S A s.heap H locs → lv_has ls 3 [(2, .int (nI i4)), (1, .int v1), (0, .ref (ad 0))] → W p l e (xk_R 0 0) s m args below meth c H locs 0 0 Q (F0 m 4 ls []) := by
    intro j
    induction j with
    | zero => intro i4 h4a h4b; exact absurd h4a (by omega)
    | succ j ih4 =>
      intro i4 h4a h4b  H locs ls v1 ev1 hP hS hl
      subst ev1
      refine lv_iload_n hx hb dX3_allInvaders_4 rfl (lv_at hl 0 rfl) ?_
      refine lv_aload_n hx hb dX3_allInvaders_5 rfl (lv_at hl 2 rfl) ?_
      refine mk_get hAt hK hP 13 (by decide) (v := .int (nI (n 4))) rfl (hts _ q803) rfl dX3_allInvaders_6 ?_
      refine mk_ge (tgt := 30) (a := i4) (b := n 4) hx hb (by omega) (by omega) dX3_allInvaders_9 (by decide) (fun c_1 => ?_) (fun c_1 => ?_)
      · skip
        obtain rfl : i4 = n 4 := by omega
        refine lv_iload_n hx hb dX3_allInvaders_30 rfl (lv_at hl 1 rfl) ?_
        exact hR _ _ _ _ _ dX3_allInvaders_31 (⟨rfl, hP⟩) hS
      refine lv_iload_n hx hb dX3_allInvaders_12 rfl (lv_at hl 1 rfl) ?_
      refine lv_aload_n hx hb dX3_allInvaders_13 rfl (lv_at hl 2 rfl) ?_
      refine mk_get hAt hK hP 16 (by decide) (v := .ref (ad 12)) rfl (hts _ q806) rfl dX3_allInvaders_14 ?_
      refine lv_bipush (v := 120) hx hb dX3_allInvaders_17 (by decide) ?_
      refine lv_iload_n hx hb dX3_allInvaders_19 rfl (lv_at hl 0 rfl) ?_
      refine lv_iadd hx hb dX3_allInvaders_20 ?_
      refine xk_to (y := nI (120 + i4)) (nI_add 120 i4) ?_
      refine mk_iald hAt hK hP 12 (f := nw) rfl (120 + i4) (by omega) (by decide) dX3_allInvaders_21 ?_
      refine lv_iadd hx hb dX3_allInvaders_22 ?_
      refine lv_istore_n (lv' := [(1, .int ((mk_sumI nw i4) + (nw (120 + i4)))), (2, .int (nI i4)), (0, .ref (ad 0))]) hx hb dX3_allInvaders_23 rfl hl (by decide) rfl (fun ls hl => ?_)
      refine lv_iinc (v := nI (i4 + 1)) (lv' := [(2, .int (nI (i4 + 1))), (1, .int ((mk_sumI nw i4) + (nw (120 + i4)))), (0, .ref (ad 0))]) hx hb dX3_allInvaders_24 hl (k := 1) rfl (xk_inc i4) (by decide) rfl (fun ls hl => ?_)
      refine lv_goto (tgt := 4) hx hb dX3_allInvaders_27 (by decide) ?_
      exact ih4 (i4 + 1) (by omega) (by omega)  _ _ _ ((mk_sumI nw i4) + (nw (120 + i4))) (rfl) hP hS (lv_sub hl [0, 1, 2] rfl)
  exact L4 (n 4 + 1) 0 (by omega) (by omega)  _ _ _ 0 (rfl) hP hS (lv_sub hl [0, 1, 2] rfl)
set_option maxHeartbeats 4000000 in
theorem m_sizes (l : Launch) (D : xk_G) (A : Nat → Prop) (ad : Nat → Nat) (σ : Nat → Nat → Int32) (nw az ir : Nat → Int32) (n : Nat → Nat) (th : Int32) (hJ : mk_ok A ad) (k : Nat) (hk : k < 40) (x : Int32) : Met l yX3_sizes (ws_ yX3_sizes cX3_sizes 4 (none)) (xk_R 0 0) (xk_Pre D A (mP D ad σ nw az ir n th) [.ref (ad 0), .int (nI k), .int x]) (xk_Pv A (fun H => mP D ad σ (mk_sizes nw k x) az ir n th H)) 0 0 A := by
  refine xk_startV (by decide +kernel) (Nat.le_of_ble_eq_true rfl) ?_
  intro p e s m args below meth c Q hAt hin hK hA hP hR ls hl
  obtain ⟨hx, hb, hml, hown, hts⟩ := id hAt
  have hl : lv_has ls 4 [(0, .ref (ad 0)), (1, .int (nI k)), (2, .int x)] := hl
  have hS : va_S A s.heap s.heap [] := va_S.rf
  refine lv_iload_n hx hb dX3_sizes_0 rfl (lv_at hl 2 rfl) ?_
  refine lv_aload_n hx hb dX3_sizes_1 rfl (lv_at hl 0 rfl) ?_
  refine mk_get hAt hK hP 16 (by decide) (v := .ref (ad 12)) rfl (hts _ q806) rfl dX3_sizes_2 ?_
  refine lv_bipush (v := 40) hx hb dX3_sizes_5 (by decide) ?_
  refine lv_iload_n hx hb dX3_sizes_7 rfl (lv_at hl 1 rfl) ?_
  refine lv_iadd hx hb dX3_sizes_8 ?_
  refine xk_to (y := nI (40 + k)) (nI_add 40 k) ?_
  refine mk_iald hAt hK hP 12 (f := nw) rfl (40 + k) (by omega) (by decide) dX3_sizes_9 ?_
  refine lv_isub hx hb dX3_sizes_10 ?_
  refine lv_istore_n (lv' := [(3, .int (x - (nw (40 + k)))), (0, .ref (ad 0)), (1, .int (nI k)), (2, .int x)]) hx hb dX3_sizes_11 rfl hl (by decide) rfl (fun ls hl => ?_)
  refine lv_aload_n hx hb dX3_sizes_12 rfl (lv_at hl 1 rfl) ?_
  refine mk_get hAt hK hP 16 (by decide) (v := .ref (ad 12)) rfl (hts _ q806) rfl dX3_sizes_13 ?_
  refine lv_sipush (v := 152) hx hb dX3_sizes_16 (by decide) ?_
  refine lv_dup2_11 hx hb dX3_sizes_19 rfl rfl ?_
  refine mk_iald hAt hK hP 12 (f := nw) rfl 152 (by omega) (by decide) dX3_sizes_20 ?_
  refine lv_iload_n hx hb dX3_sizes_21 rfl (lv_at hl 0 rfl) ?_
  have J30_2 : ∀ (H : Heap) (locs : List Loc) (ls : Array Slot) (t0 : Int32), t0 = (if (x - (nw (40 + k))) ≤ 0 then 0 else (x - (nw (40 + k)))) → mP D ad σ nw az ir n th H → va_S A s.heap H locs → lv_has ls 4 [(3, .int (x - (nw (40 + k)))), (0, .ref (ad 0)), (1, .int (nI k)), (2, .int x)] → W p l e (xk_R 0 0) s m args below meth c H locs 0 0 Q (F0 m 30 ls [.int t0, .int (nw 152), .int 152, .ref (ad 12)]) := by
    intro H locs ls t0 et0 hP hS hl
    subst et0
    refine lv_iadd hx hb dX3_sizes_30 ?_
    refine mk_iast hAt hK hJ hP hS 12 (f := nw) rfl 152 (by omega) (by decide) (σ' := σ) (nw' := upd nw 152 ((nw 152) + (if (x - (nw (40 + k))) ≤ 0 then 0 else (x - (nw (40 + k)))))) (az' := az) rfl dX3_sizes_31 (fun H locs hP hS => ?_)
    refine lv_aload_n hx hb dX3_sizes_32 rfl (lv_at hl 1 rfl) ?_
    refine mk_get hAt hK hP 16 (by decide) (v := .ref (ad 12)) rfl (hts _ q806) rfl dX3_sizes_33 ?_
    refine lv_sipush (v := 153) hx hb dX3_sizes_36 (by decide) ?_
    refine lv_dup2_11 hx hb dX3_sizes_39 rfl rfl ?_
    refine mk_iald hAt hK hP 12 (f := upd nw 152 ((nw 152) + (if (x - (nw (40 + k))) ≤ 0 then 0 else (x - (nw (40 + k)))))) rfl 153 (by omega) (by decide) dX3_sizes_40 ?_
    refine lv_iload_n hx hb dX3_sizes_41 rfl (lv_at hl 0 rfl) ?_
    have J50_4 : ∀ (H : Heap) (locs : List Loc) (ls : Array Slot) (t0 : Int32), t0 = (if 0 ≤ (x - (nw (40 + k))) then 0 else (x - (nw (40 + k)))) → mP D ad σ (upd nw 152 ((nw 152) + (if (x - (nw (40 + k))) ≤ 0 then 0 else (x - (nw (40 + k)))))) az ir n th H → va_S A s.heap H locs → lv_has ls 4 [(3, .int (x - (nw (40 + k)))), (0, .ref (ad 0)), (1, .int (nI k)), (2, .int x)] → W p l e (xk_R 0 0) s m args below meth c H locs 0 0 Q (F0 m 50 ls [.int t0, .int ((upd nw 152 ((nw 152) + (if (x - (nw (40 + k))) ≤ 0 then 0 else (x - (nw (40 + k)))))) 153), .int 153, .ref (ad 12)]) := by
      intro H locs ls t0 et0 hP hS hl
      subst et0
      refine lv_isub hx hb dX3_sizes_50 ?_
      refine mk_iast hAt hK hJ hP hS 12 (f := upd nw 152 ((nw 152) + (if (x - (nw (40 + k))) ≤ 0 then 0 else (x - (nw (40 + k)))))) rfl 153 (by omega) (by decide) (σ' := σ) (nw' := upd (upd nw 152 ((nw 152) + (if (x - (nw (40 + k))) ≤ 0 then 0 else (x - (nw (40 + k)))))) 153 (((upd nw 152 ((nw 152) + (if (x - (nw (40 + k))) ≤ 0 then 0 else (x - (nw (40 + k)))))) 153) - (if 0 ≤ (x - (nw (40 + k))) then 0 else (x - (nw (40 + k)))))) (az' := az) rfl dX3_sizes_51 (fun H locs hP hS => ?_)
      refine lv_aload_n hx hb dX3_sizes_52 rfl (lv_at hl 1 rfl) ?_
      refine mk_get hAt hK hP 16 (by decide) (v := .ref (ad 12)) rfl (hts _ q806) rfl dX3_sizes_53 ?_
      refine lv_bipush (v := 40) hx hb dX3_sizes_56 (by decide) ?_
      refine lv_iload_n hx hb dX3_sizes_58 rfl (lv_at hl 2 rfl) ?_
      refine lv_iadd hx hb dX3_sizes_59 ?_
      refine xk_to (y := nI (40 + k)) (nI_add 40 k) ?_
      refine lv_iload_n hx hb dX3_sizes_60 rfl (lv_at hl 3 rfl) ?_
      refine mk_iast hAt hK hJ hP hS 12 (f := upd (upd nw 152 ((nw 152) + (if (x - (nw (40 + k))) ≤ 0 then 0 else (x - (nw (40 + k)))))) 153 (((upd nw 152 ((nw 152) + (if (x - (nw (40 + k))) ≤ 0 then 0 else (x - (nw (40 + k)))))) 153) - (if 0 ≤ (x - (nw (40 + k))) then 0 else (x - (nw (40 + k)))))) rfl (40 + k) (by omega) (by decide) (σ' := σ) (nw' := upd (upd (upd nw 152 ((nw 152) + (if (x - (nw (40 + k))) ≤ 0 then 0 else (x - (nw (40 + k)))))) 153 (((upd nw 152 ((nw 152) + (if (x - (nw (40 + k))) ≤ 0 then 0 else (x - (nw (40 + k)))))) 153) - (if 0 ≤ (x - (nw (40 + k))) then 0 else (x - (nw (40 + k)))))) (40 + k) x) (az' := az) rfl dX3_sizes_61 (fun H locs hP hS => ?_)
      exact hR _ _ _ _ dX3_sizes_62 (hP) hS
    refine lv_if_ge (tgt := 49) hx hb dX3_sizes_42 (by decide) (fun c_3 => ?_) (fun c_3 => ?_)
    · skip
      refine lv_iconst (v := 0) hx hb dX3_sizes_49 (by decide) ?_
      exact J50_4 _ _ _ 0 ((if_pos c_3).symm) hP hS (lv_sub hl [0, 1, 2, 3] rfl)
    refine lv_iload_n hx hb dX3_sizes_45 rfl (lv_at hl 0 rfl) ?_
    refine lv_goto (tgt := 50) hx hb dX3_sizes_46 (by decide) ?_
    exact J50_4 _ _ _ (x - (nw (40 + k))) ((if_neg c_3).symm) hP hS (lv_sub hl [0, 1, 2, 3] rfl)
  refine lv_if_le (tgt := 29) hx hb dX3_sizes_22 (by decide) (fun c_1 => ?_) (fun c_1 => ?_)
  · skip
    refine lv_iconst (v := 0) hx hb dX3_sizes_29 (by decide) ?_
    exact J30_2 _ _ _ 0 ((if_pos c_1).symm) hP hS (lv_sub hl [0, 1, 2, 3] rfl)
  refine lv_iload_n hx hb dX3_sizes_25 rfl (lv_at hl 0 rfl) ?_
  refine lv_goto (tgt := 30) hx hb dX3_sizes_26 (by decide) ?_
  exact J30_2 _ _ _ (x - (nw (40 + k))) ((if_neg c_1).symm) hP hS (lv_sub hl [0, 1, 2, 3] rfl)
set_option maxHeartbeats 4000000 in
theorem m_remembers (l : Launch) (D : xk_G) (A : Nat → Prop) (ad : Nat → Nat) (σ : Nat → Nat → Int32) (nw az ir : Nat → Int32) (n : Nat → Nat) (th : Int32) (hJ : mk_ok A ad) (k : Nat) (hk : k < 40) : Met l yX3_remembers (ws_ yX3_remembers cX3_remembers 2 (none)) (xk_R 1 23) (xk_Pre D A (mP D ad σ nw az ir n th) [.ref (ad 0), .int (nI k)]) (xk_Pv A (fun H => mP D ad σ (mk_rem nw k) az ir n th H)) 0 0 A := by
  refine xk_startV (by decide +kernel) (Nat.le_of_ble_eq_true rfl) ?_
  intro p e s m args below meth c Q hAt hin hK hA hP hR ls hl
  obtain ⟨hx, hb, hml, hown, hts⟩ := id hAt
  have hl : lv_has ls 2 [(0, .ref (ad 0)), (1, .int (nI k))] := hl
  have hS : va_S A s.heap s.heap [] := va_S.rf
  refine lv_aload_n hx hb dX3_remembers_0 rfl (lv_at hl 0 rfl) ?_
  refine mk_get hAt hK hP 16 (by decide) (v := .ref (ad 12)) rfl (hts _ q806) rfl dX3_remembers_1 ?_
  refine lv_iconst (v := 0) hx hb dX3_remembers_4 (by decide) ?_
  refine lv_iload_n hx hb dX3_remembers_5 rfl (lv_at hl 1 rfl) ?_
  refine lv_iadd hx hb dX3_remembers_6 ?_
  refine xk_to (y := nI k) (xk_0 k) ?_
  refine lv_iconst (v := 5) hx hb dX3_remembers_7 (by decide) ?_
  refine mk_iast hAt hK hJ hP hS 12 (f := nw) rfl k (by omega) (by decide) (σ' := σ) (nw' := upd nw k 5) (az' := az) rfl dX3_remembers_8 (fun H locs hP hS => ?_)
  refine lv_aload_n hx hb dX3_remembers_9 rfl (lv_at hl 0 rfl) ?_
  refine lv_iload_n hx hb dX3_remembers_10 rfl (lv_at hl 1 rfl) ?_
  refine lv_iconst (v := 1) hx hb dX3_remembers_11 (by decide) ?_
  refine mk_cvV hAt hK hP hA hS (As := [.int (nI k), .int 1]) (rest := []) (m_sizes l D A ad σ (upd nw k 5) az ir n th hJ k (by omega) 1) (cwV 2 hts (lw_V q984 q986 qs27 q42 q987) rfl rfl rfl cdX3_sizes ⟨Nat.le_of_ble_eq_true rfl, Nat.le_of_ble_eq_true rfl⟩) rfl hl.1 rfl (Nat.le_of_ble_eq_true rfl) dX3_remembers_12 ⟨Nat.le_refl _, Nat.le_refl _⟩ (fun H locs hP hS => ?_)
  exact hR _ _ _ _ dX3_remembers_15 (hP) hS
set_option maxHeartbeats 4000000 in
theorem m_grow (l : Launch) (D : xk_G) (A : Nat → Prop) (ad : Nat → Nat) (σ : Nat → Nat → Int32) (nw az ir : Nat → Int32) (n : Nat → Nat) (th : Int32) (hJ : mk_ok A ad) (h4 : n 4 ≤ 8) : Met l yX3_grow (ws_ yX3_grow cX3_grow 3 (none)) (xk_R 0 0) (xk_Pre D A (mP D ad σ nw az ir n th) [.ref (ad 0)]) (xk_Pv A (fun H => mP D ad σ (mk_growR σ nw (n 4)) az ir n th H)) 0 0 A := by
  refine xk_startV (by decide +kernel) (Nat.le_of_ble_eq_true rfl) ?_
  intro p e s m args below meth c Q hAt hin hK hA hP hR ls hl
  obtain ⟨hx, hb, hml, hown, hts⟩ := id hAt
  have hl : lv_has ls 3 [(0, .ref (ad 0))] := hl
  have hS : va_S A s.heap s.heap [] := va_S.rf
  refine lv_iconst (v := 0) hx hb dX3_grow_0 (by decide) ?_
  refine lv_istore_n (lv' := [(1, .int 0), (0, .ref (ad 0))]) hx hb dX3_grow_1 rfl hl (by decide) rfl (fun ls hl => ?_)
  have L2 : ∀ (j i2 : Nat), n 4 + 1 ≤ i2 + j → i2 ≤ n 4 → ∀ (H : Heap) (locs : List Loc) (ls : Array Slot) (znw : Nat → Int32), znw = mk_growR σ nw i2 → mP D ad σ znw az ir n th H → va_S A s.heap H locs → lv_has ls 3 [(1, .int (nI i2)), (0, .ref (ad 0))] → W p l e (xk_R 0 0) s m args below meth c H locs 0 0 Q (F0 m 2 ls []) := by
    intro j
    induction j with
    | zero => intro i2 h2a h2b; exact absurd h2a (by omega)
    | succ j ih2 =>
      intro i2 h2a h2b  H locs ls znw eznw hP hS hl
      subst eznw
      refine lv_iload_n hx hb dX3_grow_2 rfl (lv_at hl 0 rfl) ?_
      refine lv_aload_n hx hb dX3_grow_3 rfl (lv_at hl 1 rfl) ?_
      refine mk_get hAt hK hP 13 (by decide) (v := .int (nI (n 4))) rfl (hts _ q803) rfl dX3_grow_4 ?_
      refine mk_ge (tgt := 95) (a := i2) (b := n 4) hx hb (by omega) (by omega) dX3_grow_7 (by decide) (fun c_1 => ?_) (fun c_1 => ?_)
      · skip
        obtain rfl : i2 = n 4 := by omega
        exact hR _ _ _ _ dX3_grow_95 (hP) hS
      refine lv_aload_n hx hb dX3_grow_10 rfl (lv_at hl 1 rfl) ?_
      refine mk_get hAt hK hP 16 (by decide) (v := .ref (ad 12)) rfl (hts _ q806) rfl dX3_grow_11 ?_
      refine lv_bipush (v := 120) hx hb dX3_grow_14 (by decide) ?_
      refine lv_iload_n hx hb dX3_grow_16 rfl (lv_at hl 0 rfl) ?_
      refine lv_iadd hx hb dX3_grow_17 ?_
      refine xk_to (y := nI (120 + i2)) (nI_add 120 i2) ?_
      refine mk_iald hAt hK hP 12 (f := mk_growR σ nw i2) rfl (120 + i2) (by omega) (by decide) dX3_grow_18 ?_
      refine lv_istore_n (lv' := [(2, .int ((mk_growR σ nw i2) (120 + i2))), (1, .int (nI i2)), (0, .ref (ad 0))]) hx hb dX3_grow_19 rfl hl (by decide) rfl (fun ls hl => ?_)
      refine lv_iload_n hx hb dX3_grow_20 rfl (lv_at hl 0 rfl) ?_
      have J49_3 : ∀ (H : Heap) (locs : List Loc) (ls : Array Slot) (v2 : Int32), v2 = (if (mk_growR σ nw i2) (120 + i2) ≤ 0 then (mk_growR σ nw i2) (120 + i2) else (if σ 10 i2 ≤ 0 then (mk_growR σ nw i2) (120 + i2) else (((mk_growR σ nw i2) (120 + i2)) + (((((mk_growR σ nw i2) (120 + i2)) * (σ 10 i2)) / 10) + 1)))) → mP D ad σ (mk_growR σ nw i2) az ir n th H → va_S A s.heap H locs → lv_has ls 3 [(2, .int v2), (1, .int (nI i2)), (0, .ref (ad 0))] → W p l e (xk_R 0 0) s m args below meth c H locs 0 0 Q (F0 m 49 ls []) := by
        intro H locs ls v2 ev2 hP hS hl
        subst ev2
        have hl : lv_has ls 3 [(2, .int (mk_gr1 (mk_growR σ nw i2 (120 + i2)) (σ 10 i2))), (1, .int (nI i2)), (0, .ref (ad 0))] := hl
        refine lv_aload_n hx hb dX3_grow_49 rfl (lv_at hl 2 rfl) ?_
        refine mk_get hAt hK hP 15 (by decide) (v := .ref (ad 11)) rfl (hts _ q805) rfl dX3_grow_50 ?_
        refine lv_iload_n hx hb dX3_grow_53 rfl (lv_at hl 1 rfl) ?_
        refine mk_iald hAt hK hP 11 (f := σ 10) rfl i2 (by omega) (by decide) dX3_grow_54 ?_
        have J65_5 : ∀ (H : Heap) (locs : List Loc) (ls : Array Slot) (t0 : Int32), t0 = (if 0 ≤ σ 10 i2 then mk_gr1 (mk_growR σ nw i2 (120 + i2)) (σ 10 i2) else ((mk_gr1 (mk_growR σ nw i2 (120 + i2)) (σ 10 i2)) / 2)) → mP D ad σ (mk_growR σ nw i2) az ir n th H → va_S A s.heap H locs → lv_has ls 3 [(2, .int (mk_gr1 (mk_growR σ nw i2 (120 + i2)) (σ 10 i2))), (1, .int (nI i2)), (0, .ref (ad 0))] → W p l e (xk_R 0 0) s m args below meth c H locs 0 0 Q (F0 m 65 ls [.int t0]) := by
          intro H locs ls t0 et0 hP hS hl
          subst et0
          refine lv_istore_n (lv' := [(2, .int (if 0 ≤ σ 10 i2 then mk_gr1 (mk_growR σ nw i2 (120 + i2)) (σ 10 i2) else ((mk_gr1 (mk_growR σ nw i2 (120 + i2)) (σ 10 i2)) / 2))), (1, .int (nI i2)), (0, .ref (ad 0))]) hx hb dX3_grow_65 rfl hl (by decide) rfl (fun ls hl => ?_)
          have hl : lv_has ls 3 [(2, .int (mk_gr2 (mk_growR σ nw i2 (120 + i2)) (σ 10 i2))), (1, .int (nI i2)), (0, .ref (ad 0))] := hl
          refine lv_aload_n hx hb dX3_grow_66 rfl (lv_at hl 2 rfl) ?_
          refine mk_get hAt hK hP 16 (by decide) (v := .ref (ad 12)) rfl (hts _ q806) rfl dX3_grow_67 ?_
          refine lv_bipush (v := 120) hx hb dX3_grow_70 (by decide) ?_
          refine lv_iload_n hx hb dX3_grow_72 rfl (lv_at hl 1 rfl) ?_
          refine lv_iadd hx hb dX3_grow_73 ?_
          refine xk_to (y := nI (120 + i2)) (nI_add 120 i2) ?_
          refine lv_iload_n hx hb dX3_grow_74 rfl (lv_at hl 0 rfl) ?_
          refine lv_sipush (v := 9999) hx hb dX3_grow_75 (by decide) ?_
          have J88_7 : ∀ (H : Heap) (locs : List Loc) (ls : Array Slot) (t0 : Int32), t0 = (if mk_gr2 (mk_growR σ nw i2 (120 + i2)) (σ 10 i2) ≤ 9999 then mk_gr2 (mk_growR σ nw i2 (120 + i2)) (σ 10 i2) else 9999) → mP D ad σ (mk_growR σ nw i2) az ir n th H → va_S A s.heap H locs → lv_has ls 3 [(2, .int (mk_gr2 (mk_growR σ nw i2 (120 + i2)) (σ 10 i2))), (1, .int (nI i2)), (0, .ref (ad 0))] → W p l e (xk_R 0 0) s m args below meth c H locs 0 0 Q (F0 m 88 ls [.int t0, .int (nI (120 + i2)), .ref (ad 12)]) := by
            intro H locs ls t0 et0 hP hS hl
            subst et0
            refine mk_iast hAt hK hJ hP hS 12 (f := mk_growR σ nw i2) rfl (120 + i2) (by omega) (by decide) (σ' := σ) (nw' := upd (mk_growR σ nw i2) (120 + i2) (if mk_gr2 (mk_growR σ nw i2 (120 + i2)) (σ 10 i2) ≤ 9999 then mk_gr2 (mk_growR σ nw i2 (120 + i2)) (σ 10 i2) else 9999)) (az' := az) rfl dX3_grow_88 (fun H locs hP hS => ?_)
            refine lv_iinc (v := nI (i2 + 1)) (lv' := [(1, .int (nI (i2 + 1))), (2, .int (mk_gr2 (mk_growR σ nw i2 (120 + i2)) (σ 10 i2))), (0, .ref (ad 0))]) hx hb dX3_grow_89 hl (k := 1) rfl (xk_inc i2) (by decide) rfl (fun ls hl => ?_)
            refine lv_goto (tgt := 2) hx hb dX3_grow_92 (by decide) ?_
            exact ih2 (i2 + 1) (by omega) (by omega)  _ _ _ (upd (mk_growR σ nw i2) (120 + i2) (if mk_gr2 (mk_growR σ nw i2 (120 + i2)) (σ 10 i2) ≤ 9999 then mk_gr2 (mk_growR σ nw i2 (120 + i2)) (σ 10 i2) else 9999)) (rfl) hP hS (lv_sub hl [0, 2] rfl)
          refine lv_icmp_le (tgt := 87) hx hb dX3_grow_78 (by decide) (fun c_6 => ?_) (fun c_6 => ?_)
          · skip
            refine lv_iload_n hx hb dX3_grow_87 rfl (lv_at hl 0 rfl) ?_
            exact J88_7 _ _ _ (mk_gr2 (mk_growR σ nw i2 (120 + i2)) (σ 10 i2)) ((if_pos c_6).symm) hP hS (lv_sub hl [0, 1, 2] rfl)
          refine lv_sipush (v := 9999) hx hb dX3_grow_81 (by decide) ?_
          refine lv_goto (tgt := 88) hx hb dX3_grow_84 (by decide) ?_
          exact J88_7 _ _ _ 9999 ((if_neg c_6).symm) hP hS (lv_sub hl [0, 1, 2] rfl)
        refine lv_if_ge (tgt := 64) hx hb dX3_grow_55 (by decide) (fun c_4 => ?_) (fun c_4 => ?_)
        · skip
          refine lv_iload_n hx hb dX3_grow_64 rfl (lv_at hl 0 rfl) ?_
          exact J65_5 _ _ _ (mk_gr1 (mk_growR σ nw i2 (120 + i2)) (σ 10 i2)) ((if_pos c_4).symm) hP hS (lv_sub hl [0, 1, 2] rfl)
        refine lv_iload_n hx hb dX3_grow_58 rfl (lv_at hl 0 rfl) ?_
        refine lv_iconst (v := 2) hx hb dX3_grow_59 (by decide) ?_
        refine lv_idiv hx hb dX3_grow_60 (by decide) ?_
        refine lv_goto (tgt := 65) hx hb dX3_grow_61 (by decide) ?_
        exact J65_5 _ _ _ ((mk_gr1 (mk_growR σ nw i2 (120 + i2)) (σ 10 i2)) / 2) ((if_neg c_4).symm) hP hS (lv_sub hl [0, 1, 2] rfl)
      refine lv_if_le (tgt := 49) hx hb dX3_grow_21 (by decide) (fun c_2 => ?_) (fun c_2 => ?_)
      · skip
        exact J49_3 _ _ _ ((mk_growR σ nw i2) (120 + i2)) ((if_pos c_2).symm) hP hS (lv_sub hl [0, 1, 2] rfl)
      refine lv_aload_n hx hb dX3_grow_24 rfl (lv_at hl 2 rfl) ?_
      refine mk_get hAt hK hP 15 (by decide) (v := .ref (ad 11)) rfl (hts _ q805) rfl dX3_grow_25 ?_
      refine lv_iload_n hx hb dX3_grow_28 rfl (lv_at hl 1 rfl) ?_
      refine mk_iald hAt hK hP 11 (f := σ 10) rfl i2 (by omega) (by decide) dX3_grow_29 ?_
      refine lv_if_le (tgt := 49) hx hb dX3_grow_30 (by decide) (fun c_8 => ?_) (fun c_8 => ?_)
      · skip
        exact J49_3 _ _ _ ((mk_growR σ nw i2) (120 + i2)) (((if_pos c_8).symm).trans (if_neg c_2).symm) hP hS (lv_sub hl [0, 1, 2] rfl)
      refine lv_iload_n hx hb dX3_grow_33 rfl (lv_at hl 0 rfl) ?_
      refine lv_iload_n hx hb dX3_grow_34 rfl (lv_at hl 0 rfl) ?_
      refine lv_aload_n hx hb dX3_grow_35 rfl (lv_at hl 2 rfl) ?_
      refine mk_get hAt hK hP 15 (by decide) (v := .ref (ad 11)) rfl (hts _ q805) rfl dX3_grow_36 ?_
      refine lv_iload_n hx hb dX3_grow_39 rfl (lv_at hl 1 rfl) ?_
      refine mk_iald hAt hK hP 11 (f := σ 10) rfl i2 (by omega) (by decide) dX3_grow_40 ?_
      refine lv_imul hx hb dX3_grow_41 ?_
      refine lv_bipush (v := 10) hx hb dX3_grow_42 (by decide) ?_
      refine lv_idiv hx hb dX3_grow_44 (by decide) ?_
      refine lv_iconst (v := 1) hx hb dX3_grow_45 (by decide) ?_
      refine lv_iadd hx hb dX3_grow_46 ?_
      refine lv_iadd hx hb dX3_grow_47 ?_
      refine lv_istore_n (lv' := [(2, .int (((mk_growR σ nw i2) (120 + i2)) + (((((mk_growR σ nw i2) (120 + i2)) * (σ 10 i2)) / 10) + 1))), (1, .int (nI i2)), (0, .ref (ad 0))]) hx hb dX3_grow_48 rfl hl (by decide) rfl (fun ls hl => ?_)
      exact J49_3 _ _ _ (((mk_growR σ nw i2) (120 + i2)) + (((((mk_growR σ nw i2) (120 + i2)) * (σ 10 i2)) / 10) + 1)) (((if_neg c_8).symm).trans (if_neg c_2).symm) hP hS (lv_sub hl [0, 1, 2] rfl)
  exact L2 (n 4 + 1) 0 (by omega) (by omega)  _ _ _ nw (rfl) hP hS (lv_sub hl [0, 1] rfl)
set_option maxHeartbeats 4000000 in
theorem m_wake (l : Launch) (D : xk_G) (A : Nat → Prop) (ad : Nat → Nat) (σ : Nat → Nat → Int32) (nw az ir : Nat → Int32) (n : Nat → Nat) (th : Int32) (hJ : mk_ok A ad) (h3 : n 3 ≤ 40) (h4 : n 4 ≤ 8) : Met l yX3_wake (ws_ yX3_wake cX3_wake 4 (none)) (xk_R 5 112) (xk_Pre D A (mP D ad σ nw az ir n th) [.ref (ad 0)]) (xk_Pv A (fun H => mP D ad σ (mk_wakeR σ n (mk_alarm σ nw n) nw (n 3)) az ir n th H)) 0 0 A := by
  refine xk_startV (by decide +kernel) (Nat.le_of_ble_eq_true rfl) ?_
  intro p e s m args below meth c Q hAt hin hK hA hP hR ls hl
  obtain ⟨hx, hb, hml, hown, hts⟩ := id hAt
  have hl : lv_has ls 4 [(0, .ref (ad 0))] := hl
  have hS : va_S A s.heap s.heap [] := va_S.rf
  refine lv_aload_n hx hb dX3_wake_0 rfl (lv_at hl 0 rfl) ?_
  refine mk_ciV hAt hK hP hA hS (As := []) (rest := []) (m_allInvaders l D A ad σ nw az ir n th hJ (by assumption)) (cwV 0 hts (lw_V q964 q966 qs22 q42 q967) rfl rfl rfl cdX3_allInvaders ⟨Nat.le_of_ble_eq_true rfl, Nat.le_of_ble_eq_true rfl⟩) rfl hl.1 rfl (Nat.le_of_ble_eq_true rfl) dX3_wake_1 ⟨Nat.le_refl _, Nat.le_refl _⟩ (fun r H locs hq hS => ?_)
  obtain ⟨rfl, hP⟩ := hq
  refine lv_aload_n hx hb dX3_wake_4 rfl (lv_at hl 0 rfl) ?_
  refine mk_get hAt hK hP 1 (by decide) (v := .ref (ad 2)) rfl (hts _ q791) rfl dX3_wake_5 ?_
  refine lv_iconst (v := 3) hx hb dX3_wake_8 (by decide) ?_
  refine mk_iald hAt hK hP 2 (f := σ 1) rfl 3 (by omega) (by decide) dX3_wake_9 ?_
  have J18_2 : ∀ (H : Heap) (locs : List Loc) (ls : Array Slot) (t0 : Int32), t0 = xk_b (¬ (mk_sumI nw (n 4) < σ 1 3)) → mP D ad σ nw az ir n th H → va_S A s.heap H locs → lv_has ls 4 [(0, .ref (ad 0))] → W p l e (xk_R 5 112) s m args below meth c H locs 0 0 Q (F0 m 18 ls [.int t0]) := by
    intro H locs ls t0 et0 hP hS hl
    subst et0
    refine lv_istore_n (lv' := [(1, .int (xk_b (¬ (mk_sumI nw (n 4) < σ 1 3)))), (0, .ref (ad 0))]) hx hb dX3_wake_18 rfl hl (by decide) rfl (fun ls hl => ?_)
    refine lv_iconst (v := 0) hx hb dX3_wake_19 (by decide) ?_
    refine lv_istore_n (lv' := [(2, .int 0), (1, .int (xk_b (¬ (mk_sumI nw (n 4) < σ 1 3)))), (0, .ref (ad 0))]) hx hb dX3_wake_20 rfl hl (by decide) rfl (fun ls hl => ?_)
    have L21 : ∀ (j i2 : Nat), n 3 + 1 ≤ i2 + j → i2 ≤ n 3 → ∀ (H : Heap) (locs : List Loc) (ls : Array Slot) (znw : Nat → Int32), znw = mk_wakeR σ n (mk_alarm σ nw n) nw i2 → mP D ad σ znw az ir n th H → va_S A s.heap H locs → lv_has ls 4 [(2, .int (nI i2)), (1, .int (xk_b (¬ (mk_sumI nw (n 4) < σ 1 3)))), (0, .ref (ad 0))] → W p l e (xk_R 5 112) s m args below meth c H locs 0 0 Q (F0 m 21 ls []) := by
      intro j
      induction j with
      | zero => intro i2 h21a h21b; exact absurd h21a (by omega)
      | succ j ih21 =>
        intro i2 h21a h21b  H locs ls znw eznw hP hS hl
        subst eznw
        refine lv_iload_n hx hb dX3_wake_21 rfl (lv_at hl 0 rfl) ?_
        refine lv_aload_n hx hb dX3_wake_22 rfl (lv_at hl 2 rfl) ?_
        refine mk_get hAt hK hP 9 (by decide) (v := .int (nI (n 3))) rfl (hts _ q799) rfl dX3_wake_23 ?_
        refine mk_ge (tgt := 110) (a := i2) (b := n 3) hx hb (by omega) (by omega) dX3_wake_26 (by decide) (fun c_3 => ?_) (fun c_3 => ?_)
        · skip
          obtain rfl : i2 = n 3 := by omega
          exact hR _ _ _ _ dX3_wake_110 (hP) hS
        refine lv_aload_n hx hb dX3_wake_29 rfl (lv_at hl 2 rfl) ?_
        refine mk_get hAt hK hP 11 (by decide) (v := .ref (ad 8)) rfl (hts _ q801) rfl dX3_wake_30 ?_
        refine lv_iload_n hx hb dX3_wake_33 rfl (lv_at hl 0 rfl) ?_
        refine mk_iald hAt hK hP 8 (f := σ 7) rfl i2 (by omega) (by decide) dX3_wake_34 ?_
        refine lv_iconst (v := 2) hx hb dX3_wake_35 (by decide) ?_
        have J72_5 : ∀ (H : Heap) (locs : List Loc) (ls : Array Slot) (t0 : Int32), t0 = xk_b (¬ (σ 7 i2 = 2) ∧ (((mk_wakeR σ n (mk_alarm σ nw n) nw i2) i2 = 2 ∧ (¬ (mk_sumI nw (n 4) < σ 1 3) ∨ (mk_wakeR σ n (mk_alarm σ nw n) nw i2) i2 = 5)) ∨ (¬ ((mk_wakeR σ n (mk_alarm σ nw n) nw i2) i2 = 2) ∧ (mk_wakeR σ n (mk_alarm σ nw n) nw i2) i2 = 5))) → mP D ad σ (mk_wakeR σ n (mk_alarm σ nw n) nw i2) az ir n th H → va_S A s.heap H locs → lv_has ls 4 [(2, .int (nI i2)), (1, .int (xk_b (¬ (mk_sumI nw (n 4) < σ 1 3)))), (0, .ref (ad 0))] → W p l e (xk_R 5 112) s m args below meth c H locs 0 0 Q (F0 m 72 ls [.int t0]) := by
          intro H locs ls t0 et0 hP hS hl
          subst et0
          refine lv_istore_n (lv' := [(3, .int (xk_b (¬ (σ 7 i2 = 2) ∧ (((mk_wakeR σ n (mk_alarm σ nw n) nw i2) i2 = 2 ∧ (¬ (mk_sumI nw (n 4) < σ 1 3) ∨ (mk_wakeR σ n (mk_alarm σ nw n) nw i2) i2 = 5)) ∨ (¬ ((mk_wakeR σ n (mk_alarm σ nw n) nw i2) i2 = 2) ∧ (mk_wakeR σ n (mk_alarm σ nw n) nw i2) i2 = 5))))), (2, .int (nI i2)), (1, .int (xk_b (¬ (mk_sumI nw (n 4) < σ 1 3)))), (0, .ref (ad 0))]) hx hb dX3_wake_72 rfl hl (by decide) rfl (fun ls hl => ?_)
          refine lv_iload_n hx hb dX3_wake_73 rfl (lv_at hl 0 rfl) ?_
          have J104_7 : ∀ (H : Heap) (locs : List Loc) (ls : Array Slot) (znw : Nat → Int32), znw = (if ¬ (σ 7 i2 = 2) ∧ (((mk_wakeR σ n (mk_alarm σ nw n) nw i2) i2 = 2 ∧ (¬ (mk_sumI nw (n 4) < σ 1 3) ∨ (mk_wakeR σ n (mk_alarm σ nw n) nw i2) i2 = 5)) ∨ (¬ ((mk_wakeR σ n (mk_alarm σ nw n) nw i2) i2 = 2) ∧ (mk_wakeR σ n (mk_alarm σ nw n) nw i2) i2 = 5)) then (if mk_mts σ (mk_wakeR σ n (mk_alarm σ nw n) nw i2) n (σ 6 i2) then upd (upd (mk_wakeR σ n (mk_alarm σ nw n) nw i2) i2 3) (80 + i2) 0 else mk_wakeR σ n (mk_alarm σ nw n) nw i2) else mk_wakeR σ n (mk_alarm σ nw n) nw i2) → mP D ad σ znw az ir n th H → va_S A s.heap H locs → lv_has ls 4 [(3, .int (xk_b (¬ (σ 7 i2 = 2) ∧ (((mk_wakeR σ n (mk_alarm σ nw n) nw i2) i2 = 2 ∧ (¬ (mk_sumI nw (n 4) < σ 1 3) ∨ (mk_wakeR σ n (mk_alarm σ nw n) nw i2) i2 = 5)) ∨ (¬ ((mk_wakeR σ n (mk_alarm σ nw n) nw i2) i2 = 2) ∧ (mk_wakeR σ n (mk_alarm σ nw n) nw i2) i2 = 5))))), (2, .int (nI i2)), (1, .int (xk_b (¬ (mk_sumI nw (n 4) < σ 1 3)))), (0, .ref (ad 0))] → W p l e (xk_R 5 112) s m args below meth c H locs 0 0 Q (F0 m 104 ls []) := by
            intro H locs ls znw eznw hP hS hl
            subst eznw
            refine lv_iinc (v := nI (i2 + 1)) (lv' := [(2, .int (nI (i2 + 1))), (3, .int (xk_b (¬ (σ 7 i2 = 2) ∧ (((mk_wakeR σ n (mk_alarm σ nw n) nw i2) i2 = 2 ∧ (¬ (mk_sumI nw (n 4) < σ 1 3) ∨ (mk_wakeR σ n (mk_alarm σ nw n) nw i2) i2 = 5)) ∨ (¬ ((mk_wakeR σ n (mk_alarm σ nw n) nw i2) i2 = 2) ∧ (mk_wakeR σ n (mk_alarm σ nw n) nw i2) i2 = 5))))), (1, .int (xk_b (¬ (mk_sumI nw (n 4) < σ 1 3)))), (0, .ref (ad 0))]) hx hb dX3_wake_104 hl (k := 1) rfl (xk_inc i2) (by decide) rfl (fun ls hl => ?_)
            refine lv_goto (tgt := 21) hx hb dX3_wake_107 (by decide) ?_
            exact ih21 (i2 + 1) (by omega) (by omega)  _ _ _ (if ¬ (σ 7 i2 = 2) ∧ (((mk_wakeR σ n (mk_alarm σ nw n) nw i2) i2 = 2 ∧ (¬ (mk_sumI nw (n 4) < σ 1 3) ∨ (mk_wakeR σ n (mk_alarm σ nw n) nw i2) i2 = 5)) ∨ (¬ ((mk_wakeR σ n (mk_alarm σ nw n) nw i2) i2 = 2) ∧ (mk_wakeR σ n (mk_alarm σ nw n) nw i2) i2 = 5)) then (if mk_mts σ (mk_wakeR σ n (mk_alarm σ nw n) nw i2) n (σ 6 i2) then upd (upd (mk_wakeR σ n (mk_alarm σ nw n) nw i2) i2 3) (80 + i2) 0 else mk_wakeR σ n (mk_alarm σ nw n) nw i2) else mk_wakeR σ n (mk_alarm σ nw n) nw i2) (rfl) hP hS (lv_sub hl [0, 2, 3] rfl)
          refine xk_ifeq (tgt := 104) hx hb dX3_wake_74 (by decide) (fun c_6 => ?_) (fun c_6 => ?_)
          · skip
            exact J104_7 _ _ _ (mk_wakeR σ n (mk_alarm σ nw n) nw i2) ((if_neg c_6).symm) hP hS (lv_sub hl [0, 1, 2, 3] rfl)
          refine lv_aload_n hx hb dX3_wake_77 rfl (lv_at hl 3 rfl) ?_
          refine lv_iload_n hx hb dX3_wake_78 rfl (lv_at hl 1 rfl) ?_
          refine mk_ciV hAt hK hP hA hS (As := [.int (nI i2)]) (rest := []) (m_meets l D A ad σ (mk_wakeR σ n (mk_alarm σ nw n) nw i2) az ir n th hJ (by assumption) i2 (by omega)) (cwV 1 hts (lw_V q968 q970 qs23 q42 q971) rfl rfl rfl cdX3_meets ⟨Nat.le_of_ble_eq_true rfl, Nat.le_of_ble_eq_true rfl⟩) rfl hl.1 rfl (Nat.le_of_ble_eq_true rfl) dX3_wake_79 ⟨Nat.le_refl _, Nat.le_refl _⟩ (fun r H locs hq hS => ?_)
          obtain ⟨rfl, hP⟩ := hq
          refine xk_ifeq (tgt := 104) hx hb dX3_wake_82 (by decide) (fun c_8 => ?_) (fun c_8 => ?_)
          · skip
            exact J104_7 _ _ _ (mk_wakeR σ n (mk_alarm σ nw n) nw i2) (((if_neg c_8).symm).trans (if_pos c_6).symm) hP hS (lv_sub hl [0, 1, 2, 3] rfl)
          refine lv_aload_n hx hb dX3_wake_85 rfl (lv_at hl 3 rfl) ?_
          refine mk_get hAt hK hP 16 (by decide) (v := .ref (ad 12)) rfl (hts _ q806) rfl dX3_wake_86 ?_
          refine lv_iconst (v := 0) hx hb dX3_wake_89 (by decide) ?_
          refine lv_iload_n hx hb dX3_wake_90 rfl (lv_at hl 1 rfl) ?_
          refine lv_iadd hx hb dX3_wake_91 ?_
          refine xk_to (y := nI i2) (xk_0 i2) ?_
          refine lv_iconst (v := 3) hx hb dX3_wake_92 (by decide) ?_
          refine mk_iast hAt hK hJ hP hS 12 (f := mk_wakeR σ n (mk_alarm σ nw n) nw i2) rfl i2 (by omega) (by decide) (σ' := σ) (nw' := upd (mk_wakeR σ n (mk_alarm σ nw n) nw i2) i2 3) (az' := az) rfl dX3_wake_93 (fun H locs hP hS => ?_)
          refine lv_aload_n hx hb dX3_wake_94 rfl (lv_at hl 3 rfl) ?_
          refine mk_get hAt hK hP 16 (by decide) (v := .ref (ad 12)) rfl (hts _ q806) rfl dX3_wake_95 ?_
          refine lv_bipush (v := 80) hx hb dX3_wake_98 (by decide) ?_
          refine lv_iload_n hx hb dX3_wake_100 rfl (lv_at hl 1 rfl) ?_
          refine lv_iadd hx hb dX3_wake_101 ?_
          refine xk_to (y := nI (80 + i2)) (nI_add 80 i2) ?_
          refine lv_iconst (v := 0) hx hb dX3_wake_102 (by decide) ?_
          refine mk_iast hAt hK hJ hP hS 12 (f := upd (mk_wakeR σ n (mk_alarm σ nw n) nw i2) i2 3) rfl (80 + i2) (by omega) (by decide) (σ' := σ) (nw' := upd (upd (mk_wakeR σ n (mk_alarm σ nw n) nw i2) i2 3) (80 + i2) 0) (az' := az) rfl dX3_wake_103 (fun H locs hP hS => ?_)
          exact J104_7 _ _ _ (upd (upd (mk_wakeR σ n (mk_alarm σ nw n) nw i2) i2 3) (80 + i2) 0) (((if_pos c_8).symm).trans (if_pos c_6).symm) hP hS (lv_sub hl [0, 1, 2, 3] rfl)
        refine lv_icmp_eq (tgt := 71) hx hb dX3_wake_36 (by decide) (fun c_4 => ?_) (fun c_4 => ?_)
        · skip
          refine lv_iconst (v := 0) hx hb dX3_wake_71 (by decide) ?_
          exact J72_5 _ _ _ 0 ((if_neg (fun h => h.1 c_4)).symm) hP hS (lv_sub hl [0, 1, 2] rfl)
        refine lv_aload_n hx hb dX3_wake_39 rfl (lv_at hl 2 rfl) ?_
        refine mk_get hAt hK hP 16 (by decide) (v := .ref (ad 12)) rfl (hts _ q806) rfl dX3_wake_40 ?_
        refine lv_iconst (v := 0) hx hb dX3_wake_43 (by decide) ?_
        refine lv_iload_n hx hb dX3_wake_44 rfl (lv_at hl 0 rfl) ?_
        refine lv_iadd hx hb dX3_wake_45 ?_
        refine xk_to (y := nI i2) (xk_0 i2) ?_
        refine mk_iald hAt hK hP 12 (f := mk_wakeR σ n (mk_alarm σ nw n) nw i2) rfl i2 (by omega) (by decide) dX3_wake_46 ?_
        refine lv_iconst (v := 2) hx hb dX3_wake_47 (by decide) ?_
        refine lv_icmp_ne (tgt := 55) hx hb dX3_wake_48 (by decide) (fun c_9 => ?_) (fun c_9 => ?_)
        · skip
          refine lv_aload_n hx hb dX3_wake_55 rfl (lv_at hl 2 rfl) ?_
          refine mk_get hAt hK hP 16 (by decide) (v := .ref (ad 12)) rfl (hts _ q806) rfl dX3_wake_56 ?_
          refine lv_iconst (v := 0) hx hb dX3_wake_59 (by decide) ?_
          refine lv_iload_n hx hb dX3_wake_60 rfl (lv_at hl 0 rfl) ?_
          refine lv_iadd hx hb dX3_wake_61 ?_
          refine xk_to (y := nI i2) (xk_0 i2) ?_
          refine mk_iald hAt hK hP 12 (f := mk_wakeR σ n (mk_alarm σ nw n) nw i2) rfl i2 (by omega) (by decide) dX3_wake_62 ?_
          refine lv_iconst (v := 5) hx hb dX3_wake_63 (by decide) ?_
          refine lv_icmp_ne (tgt := 71) hx hb dX3_wake_64 (by decide) (fun c_10 => ?_) (fun c_10 => ?_)
          · skip
            refine lv_iconst (v := 0) hx hb dX3_wake_71 (by decide) ?_
            exact J72_5 _ _ _ 0 ((if_neg (fun h => (fun h => h.elim (fun z => c_9 z.1) (fun z => c_10 z.2)) h.2)).symm) hP hS (lv_sub hl [0, 1, 2] rfl)
          refine lv_iconst (v := 1) hx hb dX3_wake_67 (by decide) ?_
          refine lv_goto (tgt := 72) hx hb dX3_wake_68 (by decide) ?_
          exact J72_5 _ _ _ 1 ((if_pos ⟨c_4, (Or.inr ⟨c_9, c_10⟩)⟩).symm) hP hS (lv_sub hl [0, 1, 2] rfl)
        refine lv_iload_n hx hb dX3_wake_51 rfl (lv_at hl 1 rfl) ?_
        refine xk_ifne (tgt := 67) hx hb dX3_wake_52 (by decide) (fun c_11 => ?_) (fun c_11 => ?_)
        · skip
          refine lv_iconst (v := 1) hx hb dX3_wake_67 (by decide) ?_
          refine lv_goto (tgt := 72) hx hb dX3_wake_68 (by decide) ?_
          exact J72_5 _ _ _ 1 ((if_pos ⟨c_4, (Or.inl ⟨c_9, (Or.inl c_11)⟩)⟩).symm) hP hS (lv_sub hl [0, 1, 2] rfl)
        refine lv_aload_n hx hb dX3_wake_55 rfl (lv_at hl 2 rfl) ?_
        refine mk_get hAt hK hP 16 (by decide) (v := .ref (ad 12)) rfl (hts _ q806) rfl dX3_wake_56 ?_
        refine lv_iconst (v := 0) hx hb dX3_wake_59 (by decide) ?_
        refine lv_iload_n hx hb dX3_wake_60 rfl (lv_at hl 0 rfl) ?_
        refine lv_iadd hx hb dX3_wake_61 ?_
        refine xk_to (y := nI i2) (xk_0 i2) ?_
        refine mk_iald hAt hK hP 12 (f := mk_wakeR σ n (mk_alarm σ nw n) nw i2) rfl i2 (by omega) (by decide) dX3_wake_62 ?_
        refine lv_iconst (v := 5) hx hb dX3_wake_63 (by decide) ?_
        refine lv_icmp_ne (tgt := 71) hx hb dX3_wake_64 (by decide) (fun c_12 => ?_) (fun c_12 => ?_)
        · skip
          refine lv_iconst (v := 0) hx hb dX3_wake_71 (by decide) ?_
          exact J72_5 _ _ _ 0 ((if_neg (fun h => (fun h => h.elim (fun z => (fun h => h.elim (fun z => c_11 z) (fun z => c_12 z)) z.2) (fun z => z.1 c_9)) h.2)).symm) hP hS (lv_sub hl [0, 1, 2] rfl)
        refine lv_iconst (v := 1) hx hb dX3_wake_67 (by decide) ?_
        refine lv_goto (tgt := 72) hx hb dX3_wake_68 (by decide) ?_
        exact J72_5 _ _ _ 1 ((if_pos ⟨c_4, (Or.inl ⟨c_9, (Or.inr c_12)⟩)⟩).symm) hP hS (lv_sub hl [0, 1, 2] rfl)
    exact L21 (n 3 + 1) 0 (by omega) (by omega)  _ _ _ nw (rfl) hP hS (lv_sub hl [0, 1, 2] rfl)
  refine lv_icmp_lt (tgt := 17) hx hb dX3_wake_10 (by decide) (fun c_1 => ?_) (fun c_1 => ?_)
  · skip
    refine lv_iconst (v := 0) hx hb dX3_wake_17 (by decide) ?_
    exact J18_2 _ _ _ 0 ((if_neg (fun h => h c_1)).symm) hP hS (lv_sub hl [0] rfl)
  refine lv_iconst (v := 1) hx hb dX3_wake_13 (by decide) ?_
  refine lv_goto (tgt := 18) hx hb dX3_wake_14 (by decide) ?_
  exact J18_2 _ _ _ 1 ((if_pos c_1).symm) hP hS (lv_sub hl [0] rfl)
set_option maxHeartbeats 4000000 in
theorem m_strikes (l : Launch) (D : xk_G) (A : Nat → Prop) (ad : Nat → Nat) (σ : Nat → Nat → Int32) (nw az ir : Nat → Int32) (n : Nat → Nat) (th : Int32) (hJ : mk_ok A ad) (k : Nat) (hk : k < 40) : Met l yX3_strikes (ws_ yX3_strikes cX3_strikes 2 (some .boolean)) (xk_R 0 0) (xk_Pre D A (mP D ad σ nw az ir n th) [.ref (ad 0), .int (nI k)]) (xk_Pi A (fun r H => r = xk_b (mk_stk σ nw k) ∧ mP D ad σ nw az ir n th H)) 0 0 A := by
  refine xk_startZ (by decide +kernel) (Nat.le_of_ble_eq_true rfl) (fun r H h => by rw [h.1]; exact xk_b01 _) ?_
  intro p e s m args below meth c Q hAt hin hK hA hP hR ls hl
  obtain ⟨hx, hb, hml, hown, hts⟩ := id hAt
  have hl : lv_has ls 2 [(0, .ref (ad 0)), (1, .int (nI k))] := hl
  have hS : va_S A s.heap s.heap [] := va_S.rf
  refine lv_aload_n hx hb dX3_strikes_0 rfl (lv_at hl 0 rfl) ?_
  refine mk_get hAt hK hP 16 (by decide) (v := .ref (ad 12)) rfl (hts _ q806) rfl dX3_strikes_1 ?_
  refine lv_iconst (v := 0) hx hb dX3_strikes_4 (by decide) ?_
  refine lv_iload_n hx hb dX3_strikes_5 rfl (lv_at hl 1 rfl) ?_
  refine lv_iadd hx hb dX3_strikes_6 ?_
  refine xk_to (y := nI k) (xk_0 k) ?_
  refine mk_iald hAt hK hP 12 (f := nw) rfl k (by omega) (by decide) dX3_strikes_7 ?_
  refine lv_iconst (v := 3) hx hb dX3_strikes_8 (by decide) ?_
  have J26_2 : ∀ (H : Heap) (locs : List Loc) (ls : Array Slot) (t0 : Int32), t0 = xk_b (nw k = 3 ∧ σ 7 k = 0) → mP D ad σ nw az ir n th H → va_S A s.heap H locs → lv_has ls 2 [(0, .ref (ad 0)), (1, .int (nI k))] → W p l e (xk_R 0 0) s m args below meth c H locs 0 0 Q (F0 m 26 ls [.int t0]) := by
    intro H locs ls t0 et0 hP hS hl
    subst et0
    exact hR _ _ _ _ _ dX3_strikes_26 (⟨rfl, hP⟩) hS
  refine lv_icmp_ne (tgt := 25) hx hb dX3_strikes_9 (by decide) (fun c_1 => ?_) (fun c_1 => ?_)
  · skip
    refine lv_iconst (v := 0) hx hb dX3_strikes_25 (by decide) ?_
    exact J26_2 _ _ _ 0 ((if_neg (fun h => c_1 h.1)).symm) hP hS (lv_sub hl [0, 1] rfl)
  refine lv_aload_n hx hb dX3_strikes_12 rfl (lv_at hl 0 rfl) ?_
  refine mk_get hAt hK hP 11 (by decide) (v := .ref (ad 8)) rfl (hts _ q801) rfl dX3_strikes_13 ?_
  refine lv_iload_n hx hb dX3_strikes_16 rfl (lv_at hl 1 rfl) ?_
  refine mk_iald hAt hK hP 8 (f := σ 7) rfl k (by omega) (by decide) dX3_strikes_17 ?_
  refine lv_if_ne (tgt := 25) hx hb dX3_strikes_18 (by decide) (fun c_3 => ?_) (fun c_3 => ?_)
  · skip
    refine lv_iconst (v := 0) hx hb dX3_strikes_25 (by decide) ?_
    exact J26_2 _ _ _ 0 ((if_neg (fun h => c_3 h.2)).symm) hP hS (lv_sub hl [0, 1] rfl)
  refine lv_iconst (v := 1) hx hb dX3_strikes_21 (by decide) ?_
  refine lv_goto (tgt := 26) hx hb dX3_strikes_22 (by decide) ?_
  exact J26_2 _ _ _ 1 ((if_pos ⟨c_1, c_3⟩).symm) hP hS (lv_sub hl [0, 1] rfl)
set_option maxHeartbeats 4000000 in
theorem m_strike (l : Launch) (D : xk_G) (A : Nat → Prop) (ad : Nat → Nat) (σ : Nat → Nat → Int32) (nw az ir : Nat → Int32) (n : Nat → Nat) (th : Int32) (hJ : mk_ok A ad) (h3 : n 3 ≤ 40) (h4 : n 4 ≤ 8) : Met l yX3_strike (ws_ yX3_strike cX3_strike 4 (none)) (xk_R 4 91) (xk_Pre D A (mP D ad σ nw az ir n th) [.ref (ad 0)]) (xk_Pv A (fun H => mP D ad σ (mk_strikeR σ n nw (n 3)) az ir n th H)) 0 0 A := by
  refine xk_startV (by decide +kernel) (Nat.le_of_ble_eq_true rfl) ?_
  intro p e s m args below meth c Q hAt hin hK hA hP hR ls hl
  obtain ⟨hx, hb, hml, hown, hts⟩ := id hAt
  have hl : lv_has ls 4 [(0, .ref (ad 0))] := hl
  have hS : va_S A s.heap s.heap [] := va_S.rf
  refine lv_iconst (v := 0) hx hb dX3_strike_0 (by decide) ?_
  refine lv_istore_n (lv' := [(1, .int 0), (0, .ref (ad 0))]) hx hb dX3_strike_1 rfl hl (by decide) rfl (fun ls hl => ?_)
  have L2 : ∀ (j i2 : Nat), n 3 + 1 ≤ i2 + j → i2 ≤ n 3 → ∀ (H : Heap) (locs : List Loc) (ls : Array Slot) (znw : Nat → Int32), znw = mk_strikeR σ n nw i2 → mP D ad σ znw az ir n th H → va_S A s.heap H locs → lv_has ls 4 [(1, .int (nI i2)), (0, .ref (ad 0))] → W p l e (xk_R 4 91) s m args below meth c H locs 0 0 Q (F0 m 2 ls []) := by
    intro j
    induction j with
    | zero => intro i2 h2a h2b; exact absurd h2a (by omega)
    | succ j ih2 =>
      intro i2 h2a h2b  H locs ls znw eznw hP hS hl
      subst eznw
      refine lv_iload_n hx hb dX3_strike_2 rfl (lv_at hl 0 rfl) ?_
      refine lv_aload_n hx hb dX3_strike_3 rfl (lv_at hl 1 rfl) ?_
      refine mk_get hAt hK hP 9 (by decide) (v := .int (nI (n 3))) rfl (hts _ q799) rfl dX3_strike_4 ?_
      refine mk_ge (tgt := 105) (a := i2) (b := n 3) hx hb (by omega) (by omega) dX3_strike_7 (by decide) (fun c_1 => ?_) (fun c_1 => ?_)
      · skip
        obtain rfl : i2 = n 3 := by omega
        exact hR _ _ _ _ dX3_strike_105 (hP) hS
      refine lv_aload_n hx hb dX3_strike_10 rfl (lv_at hl 1 rfl) ?_
      refine lv_iload_n hx hb dX3_strike_11 rfl (lv_at hl 0 rfl) ?_
      refine mk_ciV hAt hK hP hA hS (As := [.int (nI i2)]) (rest := []) (m_strikes l D A ad σ (mk_strikeR σ n nw i2) az ir n th hJ i2 (by omega)) (cwV 1 hts (lw_V q992 q994 qs29 q42 q995) rfl rfl rfl cdX3_strikes ⟨Nat.le_of_ble_eq_true rfl, Nat.le_of_ble_eq_true rfl⟩) rfl hl.1 rfl (Nat.le_of_ble_eq_true rfl) dX3_strike_12 ⟨Nat.le_refl _, Nat.le_refl _⟩ (fun r H locs hq hS => ?_)
      obtain ⟨rfl, hP⟩ := hq
      have J27_3 : ∀ (H : Heap) (locs : List Loc) (ls : Array Slot) (t0 : Int32), t0 = (if mk_stk σ (mk_strikeR σ n nw i2) i2 then mk_met σ (mk_strikeR σ n nw i2) n (σ 6 i2) else (-1)) → mP D ad σ (mk_strikeR σ n nw i2) az ir n th H → va_S A s.heap H locs → lv_has ls 4 [(1, .int (nI i2)), (0, .ref (ad 0))] → W p l e (xk_R 4 91) s m args below meth c H locs 0 0 Q (F0 m 27 ls [.int t0]) := by
        intro H locs ls t0 et0 hP hS hl
        subst et0
        refine lv_istore_n (lv' := [(2, .int (if mk_stk σ (mk_strikeR σ n nw i2) i2 then mk_met σ (mk_strikeR σ n nw i2) n (σ 6 i2) else (-1))), (1, .int (nI i2)), (0, .ref (ad 0))]) hx hb dX3_strike_27 rfl hl (by decide) rfl (fun ls hl => ?_)
        have hl : lv_has ls 4 [(2, .int (mk_its σ (mk_strikeR σ n nw i2) n i2)), (1, .int (nI i2)), (0, .ref (ad 0))] := hl
        refine lv_iload_n hx hb dX3_strike_28 rfl (lv_at hl 0 rfl) ?_
        refine lv_iconst (v := (-1)) hx hb dX3_strike_29 (by decide) ?_
        have J99_5 : ∀ (H : Heap) (locs : List Loc) (ls : Array Slot) (v2 : Int32) (znw : Nat → Int32), v2 = (if mk_its σ (mk_strikeR σ n nw i2) n i2 = (-1) then mk_its σ (mk_strikeR σ n nw i2) n i2 else nI ((mk_its σ (mk_strikeR σ n nw i2) n i2).toNatClampNeg)) → znw = (if mk_its σ (mk_strikeR σ n nw i2) n i2 = (-1) then mk_strikeR σ n nw i2 else upd (mk_str1 (mk_strikeR σ n nw i2) i2 (mk_its σ (mk_strikeR σ n nw i2) n i2).toNatClampNeg) (128 + (mk_its σ (mk_strikeR σ n nw i2) n i2).toNatClampNeg) (if 0 < mk_str0 (mk_strikeR σ n nw i2) i2 (mk_its σ (mk_strikeR σ n nw i2) n i2).toNatClampNeg then (mk_str1 (mk_strikeR σ n nw i2) i2 (mk_its σ (mk_strikeR σ n nw i2) n i2).toNatClampNeg) (128 + (mk_its σ (mk_strikeR σ n nw i2) n i2).toNatClampNeg) else nI i2)) → mP D ad σ znw az ir n th H → va_S A s.heap H locs → lv_has ls 4 [(2, .int v2), (1, .int (nI i2)), (0, .ref (ad 0))] → W p l e (xk_R 4 91) s m args below meth c H locs 0 0 Q (F0 m 99 ls []) := by
          intro H locs ls v2 znw ev2 eznw hP hS hl
          subst ev2
          subst eznw
          refine lv_iinc (v := nI (i2 + 1)) (lv' := [(1, .int (nI (i2 + 1))), (2, .int (if mk_its σ (mk_strikeR σ n nw i2) n i2 = (-1) then mk_its σ (mk_strikeR σ n nw i2) n i2 else nI ((mk_its σ (mk_strikeR σ n nw i2) n i2).toNatClampNeg))), (0, .ref (ad 0))]) hx hb dX3_strike_99 hl (k := 1) rfl (xk_inc i2) (by decide) rfl (fun ls hl => ?_)
          refine lv_goto (tgt := 2) hx hb dX3_strike_102 (by decide) ?_
          exact ih2 (i2 + 1) (by omega) (by omega)  _ _ _ (if mk_its σ (mk_strikeR σ n nw i2) n i2 = (-1) then mk_strikeR σ n nw i2 else upd (mk_str1 (mk_strikeR σ n nw i2) i2 (mk_its σ (mk_strikeR σ n nw i2) n i2).toNatClampNeg) (128 + (mk_its σ (mk_strikeR σ n nw i2) n i2).toNatClampNeg) (if 0 < mk_str0 (mk_strikeR σ n nw i2) i2 (mk_its σ (mk_strikeR σ n nw i2) n i2).toNatClampNeg then (mk_str1 (mk_strikeR σ n nw i2) i2 (mk_its σ (mk_strikeR σ n nw i2) n i2).toNatClampNeg) (128 + (mk_its σ (mk_strikeR σ n nw i2) n i2).toNatClampNeg) else nI i2)) (rfl) hP hS (lv_sub hl [0, 2] rfl)
        refine lv_icmp_eq (tgt := 99) hx hb dX3_strike_30 (by decide) (fun c_4 => ?_) (fun c_4 => ?_)
        · skip
          exact J99_5 _ _ _ (mk_its σ (mk_strikeR σ n nw i2) n i2) (mk_strikeR σ n nw i2) ((if_pos c_4).symm) ((if_pos c_4).symm) hP hS (lv_sub hl [0, 1, 2] rfl)
        have hix := mk_ix_of (by omega) (mk_its_ix σ (mk_strikeR σ n nw i2) n i2) c_4
        have hix2 := hix.2.1
        have hl : lv_has ls 4 [(2, .int (nI ((mk_its σ (mk_strikeR σ n nw i2) n i2).toNatClampNeg))), (1, .int (nI i2)), (0, .ref (ad 0))] := by rw [← hix.1]; exact hl
        refine lv_aload_n hx hb dX3_strike_33 rfl (lv_at hl 2 rfl) ?_
        refine mk_get hAt hK hP 16 (by decide) (v := .ref (ad 12)) rfl (hts _ q806) rfl dX3_strike_34 ?_
        refine lv_bipush (v := 120) hx hb dX3_strike_37 (by decide) ?_
        refine lv_iload_n hx hb dX3_strike_39 rfl (lv_at hl 0 rfl) ?_
        refine lv_iadd hx hb dX3_strike_40 ?_
        refine xk_to (y := nI (120 + (mk_its σ (mk_strikeR σ n nw i2) n i2).toNatClampNeg)) (nI_add 120 ((mk_its σ (mk_strikeR σ n nw i2) n i2).toNatClampNeg)) ?_
        refine mk_iald hAt hK hP 12 (f := mk_strikeR σ n nw i2) rfl (120 + (mk_its σ (mk_strikeR σ n nw i2) n i2).toNatClampNeg) (by omega) (by decide) dX3_strike_41 ?_
        refine lv_aload_n hx hb dX3_strike_42 rfl (lv_at hl 2 rfl) ?_
        refine mk_get hAt hK hP 16 (by decide) (v := .ref (ad 12)) rfl (hts _ q806) rfl dX3_strike_43 ?_
        refine lv_bipush (v := 40) hx hb dX3_strike_46 (by decide) ?_
        refine lv_iload_n hx hb dX3_strike_48 rfl (lv_at hl 1 rfl) ?_
        refine lv_iadd hx hb dX3_strike_49 ?_
        refine xk_to (y := nI (40 + i2)) (nI_add 40 i2) ?_
        refine mk_iald hAt hK hP 12 (f := mk_strikeR σ n nw i2) rfl (40 + i2) (by omega) (by decide) dX3_strike_50 ?_
        refine lv_isub hx hb dX3_strike_51 ?_
        refine lv_istore_n (lv' := [(3, .int (((mk_strikeR σ n nw i2) (120 + (mk_its σ (mk_strikeR σ n nw i2) n i2).toNatClampNeg)) - ((mk_strikeR σ n nw i2) (40 + i2)))), (2, .int (nI ((mk_its σ (mk_strikeR σ n nw i2) n i2).toNatClampNeg))), (1, .int (nI i2)), (0, .ref (ad 0))]) hx hb dX3_strike_52 rfl hl (by decide) rfl (fun ls hl => ?_)
        have hl : lv_has ls 4 [(3, .int (mk_str0 (mk_strikeR σ n nw i2) i2 (mk_its σ (mk_strikeR σ n nw i2) n i2).toNatClampNeg)), (2, .int (nI ((mk_its σ (mk_strikeR σ n nw i2) n i2).toNatClampNeg))), (1, .int (nI i2)), (0, .ref (ad 0))] := hl
        refine lv_aload_n hx hb dX3_strike_53 rfl (lv_at hl 3 rfl) ?_
        refine mk_get hAt hK hP 16 (by decide) (v := .ref (ad 12)) rfl (hts _ q806) rfl dX3_strike_54 ?_
        refine lv_bipush (v := 120) hx hb dX3_strike_57 (by decide) ?_
        refine lv_iload_n hx hb dX3_strike_59 rfl (lv_at hl 1 rfl) ?_
        refine lv_iadd hx hb dX3_strike_60 ?_
        refine xk_to (y := nI (120 + (mk_its σ (mk_strikeR σ n nw i2) n i2).toNatClampNeg)) (nI_add 120 ((mk_its σ (mk_strikeR σ n nw i2) n i2).toNatClampNeg)) ?_
        refine lv_iload_n hx hb dX3_strike_61 rfl (lv_at hl 0 rfl) ?_
        have J70_7 : ∀ (H : Heap) (locs : List Loc) (ls : Array Slot) (t0 : Int32), t0 = (if 0 ≤ mk_str0 (mk_strikeR σ n nw i2) i2 (mk_its σ (mk_strikeR σ n nw i2) n i2).toNatClampNeg then mk_str0 (mk_strikeR σ n nw i2) i2 (mk_its σ (mk_strikeR σ n nw i2) n i2).toNatClampNeg else 0) → mP D ad σ (mk_strikeR σ n nw i2) az ir n th H → va_S A s.heap H locs → lv_has ls 4 [(3, .int (mk_str0 (mk_strikeR σ n nw i2) i2 (mk_its σ (mk_strikeR σ n nw i2) n i2).toNatClampNeg)), (2, .int (nI ((mk_its σ (mk_strikeR σ n nw i2) n i2).toNatClampNeg))), (1, .int (nI i2)), (0, .ref (ad 0))] → W p l e (xk_R 4 91) s m args below meth c H locs 0 0 Q (F0 m 70 ls [.int t0, .int (nI (120 + (mk_its σ (mk_strikeR σ n nw i2) n i2).toNatClampNeg)), .ref (ad 12)]) := by
          intro H locs ls t0 et0 hP hS hl
          subst et0
          refine mk_iast hAt hK hJ hP hS 12 (f := mk_strikeR σ n nw i2) rfl (120 + (mk_its σ (mk_strikeR σ n nw i2) n i2).toNatClampNeg) (by omega) (by decide) (σ' := σ) (nw' := upd (mk_strikeR σ n nw i2) (120 + (mk_its σ (mk_strikeR σ n nw i2) n i2).toNatClampNeg) (if 0 ≤ mk_str0 (mk_strikeR σ n nw i2) i2 (mk_its σ (mk_strikeR σ n nw i2) n i2).toNatClampNeg then mk_str0 (mk_strikeR σ n nw i2) i2 (mk_its σ (mk_strikeR σ n nw i2) n i2).toNatClampNeg else 0)) (az' := az) rfl dX3_strike_70 (fun H locs hP hS => ?_)
          have hP : mP D ad σ (mk_str1 (mk_strikeR σ n nw i2) i2 (mk_its σ (mk_strikeR σ n nw i2) n i2).toNatClampNeg) az ir n th H := hP
          refine lv_aload_n hx hb dX3_strike_71 rfl (lv_at hl 3 rfl) ?_
          refine mk_get hAt hK hP 16 (by decide) (v := .ref (ad 12)) rfl (hts _ q806) rfl dX3_strike_72 ?_
          refine lv_sipush (v := 128) hx hb dX3_strike_75 (by decide) ?_
          refine lv_iload_n hx hb dX3_strike_78 rfl (lv_at hl 1 rfl) ?_
          refine lv_iadd hx hb dX3_strike_79 ?_
          refine xk_to (y := nI (128 + (mk_its σ (mk_strikeR σ n nw i2) n i2).toNatClampNeg)) (nI_add 128 ((mk_its σ (mk_strikeR σ n nw i2) n i2).toNatClampNeg)) ?_
          refine lv_iload_n hx hb dX3_strike_80 rfl (lv_at hl 0 rfl) ?_
          have J98_9 : ∀ (H : Heap) (locs : List Loc) (ls : Array Slot) (t0 : Int32), t0 = (if 0 < mk_str0 (mk_strikeR σ n nw i2) i2 (mk_its σ (mk_strikeR σ n nw i2) n i2).toNatClampNeg then (mk_str1 (mk_strikeR σ n nw i2) i2 (mk_its σ (mk_strikeR σ n nw i2) n i2).toNatClampNeg) (128 + (mk_its σ (mk_strikeR σ n nw i2) n i2).toNatClampNeg) else nI i2) → mP D ad σ (mk_str1 (mk_strikeR σ n nw i2) i2 (mk_its σ (mk_strikeR σ n nw i2) n i2).toNatClampNeg) az ir n th H → va_S A s.heap H locs → lv_has ls 4 [(3, .int (mk_str0 (mk_strikeR σ n nw i2) i2 (mk_its σ (mk_strikeR σ n nw i2) n i2).toNatClampNeg)), (2, .int (nI ((mk_its σ (mk_strikeR σ n nw i2) n i2).toNatClampNeg))), (1, .int (nI i2)), (0, .ref (ad 0))] → W p l e (xk_R 4 91) s m args below meth c H locs 0 0 Q (F0 m 98 ls [.int t0, .int (nI (128 + (mk_its σ (mk_strikeR σ n nw i2) n i2).toNatClampNeg)), .ref (ad 12)]) := by
            intro H locs ls t0 et0 hP hS hl
            subst et0
            refine mk_iast hAt hK hJ hP hS 12 (f := mk_str1 (mk_strikeR σ n nw i2) i2 (mk_its σ (mk_strikeR σ n nw i2) n i2).toNatClampNeg) rfl (128 + (mk_its σ (mk_strikeR σ n nw i2) n i2).toNatClampNeg) (by omega) (by decide) (σ' := σ) (nw' := upd (mk_str1 (mk_strikeR σ n nw i2) i2 (mk_its σ (mk_strikeR σ n nw i2) n i2).toNatClampNeg) (128 + (mk_its σ (mk_strikeR σ n nw i2) n i2).toNatClampNeg) (if 0 < mk_str0 (mk_strikeR σ n nw i2) i2 (mk_its σ (mk_strikeR σ n nw i2) n i2).toNatClampNeg then (mk_str1 (mk_strikeR σ n nw i2) i2 (mk_its σ (mk_strikeR σ n nw i2) n i2).toNatClampNeg) (128 + (mk_its σ (mk_strikeR σ n nw i2) n i2).toNatClampNeg) else nI i2)) (az' := az) rfl dX3_strike_98 (fun H locs hP hS => ?_)
            exact J99_5 _ _ _ (nI ((mk_its σ (mk_strikeR σ n nw i2) n i2).toNatClampNeg)) (upd (mk_str1 (mk_strikeR σ n nw i2) i2 (mk_its σ (mk_strikeR σ n nw i2) n i2).toNatClampNeg) (128 + (mk_its σ (mk_strikeR σ n nw i2) n i2).toNatClampNeg) (if 0 < mk_str0 (mk_strikeR σ n nw i2) i2 (mk_its σ (mk_strikeR σ n nw i2) n i2).toNatClampNeg then (mk_str1 (mk_strikeR σ n nw i2) i2 (mk_its σ (mk_strikeR σ n nw i2) n i2).toNatClampNeg) (128 + (mk_its σ (mk_strikeR σ n nw i2) n i2).toNatClampNeg) else nI i2)) ((if_neg c_4).symm) ((if_neg c_4).symm) hP hS (lv_sub hl [1, 2, 3] rfl)
          refine lv_if_gt (tgt := 88) hx hb dX3_strike_81 (by decide) (fun c_8 => ?_) (fun c_8 => ?_)
          · skip
            refine lv_aload_n hx hb dX3_strike_88 rfl (lv_at hl 3 rfl) ?_
            refine mk_get hAt hK hP 16 (by decide) (v := .ref (ad 12)) rfl (hts _ q806) rfl dX3_strike_89 ?_
            refine lv_sipush (v := 128) hx hb dX3_strike_92 (by decide) ?_
            refine lv_iload_n hx hb dX3_strike_95 rfl (lv_at hl 1 rfl) ?_
            refine lv_iadd hx hb dX3_strike_96 ?_
            refine xk_to (y := nI (128 + (mk_its σ (mk_strikeR σ n nw i2) n i2).toNatClampNeg)) (nI_add 128 ((mk_its σ (mk_strikeR σ n nw i2) n i2).toNatClampNeg)) ?_
            refine mk_iald hAt hK hP 12 (f := mk_str1 (mk_strikeR σ n nw i2) i2 (mk_its σ (mk_strikeR σ n nw i2) n i2).toNatClampNeg) rfl (128 + (mk_its σ (mk_strikeR σ n nw i2) n i2).toNatClampNeg) (by omega) (by decide) dX3_strike_97 ?_
            exact J98_9 _ _ _ ((mk_str1 (mk_strikeR σ n nw i2) i2 (mk_its σ (mk_strikeR σ n nw i2) n i2).toNatClampNeg) (128 + (mk_its σ (mk_strikeR σ n nw i2) n i2).toNatClampNeg)) ((if_pos c_8).symm) hP hS (lv_sub hl [0, 1, 2, 3] rfl)
          refine lv_iload_n hx hb dX3_strike_84 rfl (lv_at hl 2 rfl) ?_
          refine lv_goto (tgt := 98) hx hb dX3_strike_85 (by decide) ?_
          exact J98_9 _ _ _ (nI i2) ((if_neg c_8).symm) hP hS (lv_sub hl [0, 1, 2, 3] rfl)
        refine lv_if_ge (tgt := 69) hx hb dX3_strike_62 (by decide) (fun c_6 => ?_) (fun c_6 => ?_)
        · skip
          refine lv_iload_n hx hb dX3_strike_69 rfl (lv_at hl 0 rfl) ?_
          exact J70_7 _ _ _ (mk_str0 (mk_strikeR σ n nw i2) i2 (mk_its σ (mk_strikeR σ n nw i2) n i2).toNatClampNeg) ((if_pos c_6).symm) hP hS (lv_sub hl [0, 1, 2, 3] rfl)
        refine lv_iconst (v := 0) hx hb dX3_strike_65 (by decide) ?_
        refine lv_goto (tgt := 70) hx hb dX3_strike_66 (by decide) ?_
        exact J70_7 _ _ _ 0 ((if_neg c_6).symm) hP hS (lv_sub hl [0, 1, 2, 3] rfl)
      refine xk_ifeq (tgt := 26) hx hb dX3_strike_15 (by decide) (fun c_2 => ?_) (fun c_2 => ?_)
      · skip
        refine lv_iconst (v := (-1)) hx hb dX3_strike_26 (by decide) ?_
        exact J27_3 _ _ _ (-1) ((if_neg c_2).symm) hP hS (lv_sub hl [0, 1] rfl)
      refine lv_aload_n hx hb dX3_strike_18 rfl (lv_at hl 1 rfl) ?_
      refine lv_iload_n hx hb dX3_strike_19 rfl (lv_at hl 0 rfl) ?_
      refine mk_ciV hAt hK hP hA hS (As := [.int (nI i2)]) (rest := []) (m_met l D A ad σ (mk_strikeR σ n nw i2) az ir n th hJ (by assumption) i2 (by omega)) (cwV 1 hts (lw_V q972 q974 qs24 q42 q975) rfl rfl rfl cdX3_met ⟨Nat.le_of_ble_eq_true rfl, Nat.le_of_ble_eq_true rfl⟩) rfl hl.1 rfl (Nat.le_of_ble_eq_true rfl) dX3_strike_20 ⟨Nat.le_refl _, Nat.le_refl _⟩ (fun r H locs hq hS => ?_)
      obtain ⟨rfl, hP⟩ := hq
      refine lv_goto (tgt := 27) hx hb dX3_strike_23 (by decide) ?_
      exact J27_3 _ _ _ (mk_met σ (mk_strikeR σ n nw i2) n (σ 6 i2)) ((if_pos c_2).symm) hP hS (lv_sub hl [0, 1] rfl)
  exact L2 (n 3 + 1) 0 (by omega) (by omega)  _ _ _ nw (rfl) hP hS (lv_sub hl [0, 1] rfl)
set_option maxHeartbeats 4000000 in
theorem m_isCalmed (l : Launch) (D : xk_G) (A : Nat → Prop) (ad : Nat → Nat) (σ : Nat → Nat → Int32) (nw az ir : Nat → Int32) (n : Nat → Nat) (th : Int32) (hJ : mk_ok A ad) (h3 : n 3 ≤ 40) (x : Int32) : Met l yX3_isCalmed (ws_ yX3_isCalmed cX3_isCalmed 4 (some .boolean)) (xk_R 3 67) (xk_Pre D A (mP D ad σ nw az ir n th) [.ref (ad 0), .int x]) (xk_Pi A (fun r H => r = mk_clm σ n x ∧ mP D ad σ nw az ir n th H)) 0 0 A := by
  refine xk_startZ (by decide +kernel) (Nat.le_of_ble_eq_true rfl) (fun r H h => by rw [h.1]; exact mk_clmR_01 _ _ _) ?_
  intro p e s m args below meth c Q hAt hin hK hA hP hR ls hl
  obtain ⟨hx, hb, hml, hown, hts⟩ := id hAt
  have hl : lv_has ls 4 [(0, .ref (ad 0)), (1, .int x)] := hl
  have hS : va_S A s.heap s.heap [] := va_S.rf
  refine lv_iconst (v := 0) hx hb dX3_isCalmed_0 (by decide) ?_
  refine lv_istore_n (lv' := [(2, .int 0), (0, .ref (ad 0)), (1, .int x)]) hx hb dX3_isCalmed_1 rfl hl (by decide) rfl (fun ls hl => ?_)
  refine lv_iconst (v := 0) hx hb dX3_isCalmed_2 (by decide) ?_
  refine lv_istore_n (lv' := [(3, .int 0), (2, .int 0), (0, .ref (ad 0)), (1, .int x)]) hx hb dX3_isCalmed_3 rfl hl (by decide) rfl (fun ls hl => ?_)
  have L4 : ∀ (j i4 : Nat), n 3 + 1 ≤ i4 + j → i4 ≤ n 3 → ∀ (H : Heap) (locs : List Loc) (ls : Array Slot) (v2 : Int32), v2 = mk_clmR σ x i4 → mP D ad σ nw az ir n th H → va_S A s.heap H locs → lv_has ls 4 [(3, .int (nI i4)), (2, .int v2), (0, .ref (ad 0)), (1, .int x)] → W p l e (xk_R 3 67) s m args below meth c H locs 0 0 Q (F0 m 4 ls []) := by
    intro j
    induction j with
    | zero => intro i4 h4a h4b; exact absurd h4a (by omega)
    | succ j ih4 =>
      intro i4 h4a h4b  H locs ls v2 ev2 hP hS hl
      subst ev2
      refine lv_iload_n hx hb dX3_isCalmed_4 rfl (lv_at hl 0 rfl) ?_
      refine lv_aload_n hx hb dX3_isCalmed_5 rfl (lv_at hl 2 rfl) ?_
      refine mk_get hAt hK hP 9 (by decide) (v := .int (nI (n 3))) rfl (hts _ q799) rfl dX3_isCalmed_6 ?_
      refine mk_ge (tgt := 52) (a := i4) (b := n 3) hx hb (by omega) (by omega) dX3_isCalmed_9 (by decide) (fun c_1 => ?_) (fun c_1 => ?_)
      · skip
        obtain rfl : i4 = n 3 := by omega
        refine lv_iload_n hx hb dX3_isCalmed_52 rfl (lv_at hl 1 rfl) ?_
        exact hR _ _ _ _ _ dX3_isCalmed_53 (⟨rfl, hP⟩) hS
      refine lv_iload_n hx hb dX3_isCalmed_12 rfl (lv_at hl 1 rfl) ?_
      have J45_3 : ∀ (H : Heap) (locs : List Loc) (ls : Array Slot) (t0 : Int32), t0 = xk_b (¬ (mk_clmR σ x i4 = 0) ∨ (σ 7 i4 = 2 ∧ mk_tch σ (σ 6 i4) x)) → mP D ad σ nw az ir n th H → va_S A s.heap H locs → lv_has ls 4 [(3, .int (nI i4)), (2, .int (mk_clmR σ x i4)), (0, .ref (ad 0)), (1, .int x)] → W p l e (xk_R 3 67) s m args below meth c H locs 0 0 Q (F0 m 45 ls [.int t0]) := by
        intro H locs ls t0 et0 hP hS hl
        subst et0
        refine lv_istore_n (lv' := [(2, .int (xk_b (¬ (mk_clmR σ x i4 = 0) ∨ (σ 7 i4 = 2 ∧ mk_tch σ (σ 6 i4) x)))), (3, .int (nI i4)), (0, .ref (ad 0)), (1, .int x)]) hx hb dX3_isCalmed_45 rfl hl (by decide) rfl (fun ls hl => ?_)
        refine lv_iinc (v := nI (i4 + 1)) (lv' := [(3, .int (nI (i4 + 1))), (2, .int (xk_b (¬ (mk_clmR σ x i4 = 0) ∨ (σ 7 i4 = 2 ∧ mk_tch σ (σ 6 i4) x)))), (0, .ref (ad 0)), (1, .int x)]) hx hb dX3_isCalmed_46 hl (k := 1) rfl (xk_inc i4) (by decide) rfl (fun ls hl => ?_)
        refine lv_goto (tgt := 4) hx hb dX3_isCalmed_49 (by decide) ?_
        exact ih4 (i4 + 1) (by omega) (by omega)  _ _ _ (xk_b (¬ (mk_clmR σ x i4 = 0) ∨ (σ 7 i4 = 2 ∧ mk_tch σ (σ 6 i4) x))) (rfl) hP hS (lv_sub hl [0, 1, 2, 3] rfl)
      refine lv_if_ne (tgt := 40) hx hb dX3_isCalmed_13 (by decide) (fun c_2 => ?_) (fun c_2 => ?_)
      · skip
        refine lv_iconst (v := 1) hx hb dX3_isCalmed_40 (by decide) ?_
        refine lv_goto (tgt := 45) hx hb dX3_isCalmed_41 (by decide) ?_
        exact J45_3 _ _ _ 1 ((if_pos (Or.inl c_2)).symm) hP hS (lv_sub hl [0, 1, 2, 3] rfl)
      refine lv_aload_n hx hb dX3_isCalmed_16 rfl (lv_at hl 2 rfl) ?_
      refine mk_get hAt hK hP 11 (by decide) (v := .ref (ad 8)) rfl (hts _ q801) rfl dX3_isCalmed_17 ?_
      refine lv_iload_n hx hb dX3_isCalmed_20 rfl (lv_at hl 0 rfl) ?_
      refine mk_iald hAt hK hP 8 (f := σ 7) rfl i4 (by omega) (by decide) dX3_isCalmed_21 ?_
      refine lv_iconst (v := 2) hx hb dX3_isCalmed_22 (by decide) ?_
      refine lv_icmp_ne (tgt := 44) hx hb dX3_isCalmed_23 (by decide) (fun c_4 => ?_) (fun c_4 => ?_)
      · skip
        refine lv_iconst (v := 0) hx hb dX3_isCalmed_44 (by decide) ?_
        exact J45_3 _ _ _ 0 ((if_neg (fun h => h.elim (fun z => z c_2) (fun z => (fun h => c_4 h.1) z))).symm) hP hS (lv_sub hl [0, 1, 2, 3] rfl)
      refine lv_aload_n hx hb dX3_isCalmed_26 rfl (lv_at hl 2 rfl) ?_
      refine lv_aload_n hx hb dX3_isCalmed_27 rfl (lv_at hl 2 rfl) ?_
      refine mk_get hAt hK hP 10 (by decide) (v := .ref (ad 7)) rfl (hts _ q800) rfl dX3_isCalmed_28 ?_
      refine lv_iload_n hx hb dX3_isCalmed_31 rfl (lv_at hl 0 rfl) ?_
      refine mk_iald hAt hK hP 7 (f := σ 6) rfl i4 (by omega) (by decide) dX3_isCalmed_32 ?_
      refine lv_iload_n hx hb dX3_isCalmed_33 rfl (lv_at hl 3 rfl) ?_
      refine mk_ciV hAt hK hP hA hS (As := [.int (σ 6 i4), .int x]) (rest := []) (m_touches l D A ad σ nw az ir n th hJ (σ 6 i4) x) (cwV 2 hts (lw_V q944 q946 qs18 q42 q947) rfl rfl rfl cdX3_touches ⟨Nat.le_of_ble_eq_true rfl, Nat.le_of_ble_eq_true rfl⟩) rfl hl.1 rfl (Nat.le_of_ble_eq_true rfl) dX3_isCalmed_34 ⟨Nat.le_refl _, Nat.le_refl _⟩ (fun r H locs hq hS => ?_)
      obtain ⟨rfl, hP⟩ := hq
      refine xk_ifeq (tgt := 44) hx hb dX3_isCalmed_37 (by decide) (fun c_5 => ?_) (fun c_5 => ?_)
      · skip
        refine lv_iconst (v := 0) hx hb dX3_isCalmed_44 (by decide) ?_
        exact J45_3 _ _ _ 0 ((if_neg (fun h => h.elim (fun z => z c_2) (fun z => (fun h => c_5 h.2) z))).symm) hP hS (lv_sub hl [0, 1, 2, 3] rfl)
      refine lv_iconst (v := 1) hx hb dX3_isCalmed_40 (by decide) ?_
      refine lv_goto (tgt := 45) hx hb dX3_isCalmed_41 (by decide) ?_
      exact J45_3 _ _ _ 1 ((if_pos (Or.inr ⟨c_4, c_5⟩)).symm) hP hS (lv_sub hl [0, 1, 2, 3] rfl)
  exact L4 (n 3 + 1) 0 (by omega) (by omega)  _ _ _ 0 (rfl) hP hS (lv_sub hl [0, 1, 2, 3] rfl)
set_option maxHeartbeats 4000000 in
theorem m_work (l : Launch) (D : xk_G) (A : Nat → Prop) (ad : Nat → Nat) (σ : Nat → Nat → Int32) (nw az ir : Nat → Int32) (n : Nat → Nat) (th : Int32) (hJ : mk_ok A ad) (h3 : n 3 ≤ 40) (h4 : n 4 ≤ 8) : Met l yX3_work (ws_ yX3_work cX3_work 8 (none)) (xk_R 5 112) (xk_Pre D A (mP D ad σ nw az ir n th) [.ref (ad 0)]) (xk_Pv A (fun H => mP D ad σ (mk_work σ n nw) az ir n th H)) 0 0 A := by
  refine xk_startV (by decide +kernel) (Nat.le_of_ble_eq_true rfl) ?_
  intro p e s m args below meth c Q hAt hin hK hA hP hR ls hl
  obtain ⟨hx, hb, hml, hown, hts⟩ := id hAt
  have hl : lv_has ls 8 [(0, .ref (ad 0))] := hl
  have hS : va_S A s.heap s.heap [] := va_S.rf
  refine lv_iconst (v := 0) hx hb dX3_work_0 (by decide) ?_
  refine lv_istore_n (lv' := [(1, .int 0), (0, .ref (ad 0))]) hx hb dX3_work_1 rfl hl (by decide) rfl (fun ls hl => ?_)
  refine lv_lconst (v := 0) hx hb dX3_work_2 (by decide) ?_
  refine lv_lstore_n (lv' := [(2, .long 0), (1, .int 0), (0, .ref (ad 0))]) hx hb dX3_work_3 rfl hl (by decide) rfl (fun ls hl => ?_)
  refine lv_iconst (v := 0) hx hb dX3_work_4 (by decide) ?_
  refine lv_istore (lv' := [(4, .int 0), (2, .long 0), (1, .int 0), (0, .ref (ad 0))]) hx hb dX3_work_5 hl (by decide) rfl (fun ls hl => ?_)
  have L7 : ∀ (j i7 : Nat), n 3 + 1 ≤ i7 + j → i7 ≤ n 3 → ∀ (H : Heap) (locs : List Loc) (ls : Array Slot) (v1 : Int32) (v2 : Int64), v1 = mk_hlpR σ nw n i7 → v2 = mk_hlgR σ nw n i7 → mP D ad σ nw az ir n th H → va_S A s.heap H locs → lv_has ls 8 [(4, .int (nI i7)), (2, .long v2), (1, .int v1), (0, .ref (ad 0))] → W p l e (xk_R 5 112) s m args below meth c H locs 0 0 Q (F0 m 7 ls []) := by
    intro j
    induction j with
    | zero => intro i7 h7a h7b; exact absurd h7a (by omega)
    | succ j ih7 =>
      intro i7 h7a h7b  H locs ls v1 v2 ev1 ev2 hP hS hl
      subst ev1
      subst ev2
      refine lv_iload hx hb dX3_work_7 (lv_at hl 0 rfl) ?_
      refine lv_aload_n hx hb dX3_work_9 rfl (lv_at hl 3 rfl) ?_
      refine mk_get hAt hK hP 9 (by decide) (v := .int (nI (n 3))) rfl (hts _ q799) rfl dX3_work_10 ?_
      refine mk_ge (tgt := 65) (a := i7) (b := n 3) hx hb (by omega) (by omega) dX3_work_13 (by decide) (fun c_1 => ?_) (fun c_1 => ?_)
      · skip
        obtain rfl : i7 = n 3 := by omega
        refine lv_iconst (v := 0) hx hb dX3_work_65 (by decide) ?_
        refine lv_istore (lv' := [(4, .int 0), (2, .long (mk_hlgR σ nw n (n 3))), (1, .int (mk_hlpR σ nw n (n 3))), (0, .ref (ad 0))]) hx hb dX3_work_66 hl (by decide) rfl (fun ls hl => ?_)
        have L68 : ∀ (j i68 : Nat), n 3 + 1 ≤ i68 + j → i68 ≤ n 3 → ∀ (H : Heap) (locs : List Loc) (ls : Array Slot) (znw : Nat → Int32), znw = mk_workR σ n (mk_hlpR σ nw n (n 3)) (mk_hlgR σ nw n (n 3)) nw i68 → mP D ad σ znw az ir n th H → va_S A s.heap H locs → lv_has ls 8 [(4, .int (nI i68)), (2, .long (mk_hlgR σ nw n (n 3))), (1, .int (mk_hlpR σ nw n (n 3))), (0, .ref (ad 0))] → W p l e (xk_R 5 112) s m args below meth c H locs 0 0 Q (F0 m 68 ls []) := by
          intro j
          induction j with
          | zero => intro i68 h68a h68b; exact absurd h68a (by omega)
          | succ j ih68 =>
            intro i68 h68a h68b  H locs ls znw eznw hP hS hl
            subst eznw
            refine lv_iload hx hb dX3_work_68 (lv_at hl 0 rfl) ?_
            refine lv_aload_n hx hb dX3_work_70 rfl (lv_at hl 3 rfl) ?_
            refine mk_get hAt hK hP 9 (by decide) (v := .int (nI (n 3))) rfl (hts _ q799) rfl dX3_work_71 ?_
            refine mk_ge (tgt := 257) (a := i68) (b := n 3) hx hb (by omega) (by omega) dX3_work_74 (by decide) (fun c_2 => ?_) (fun c_2 => ?_)
            · skip
              obtain rfl : i68 = n 3 := by omega
              exact hR _ _ _ _ dX3_work_257 (hP) hS
            refine lv_aload_n hx hb dX3_work_77 rfl (lv_at hl 3 rfl) ?_
            refine mk_get hAt hK hP 16 (by decide) (v := .ref (ad 12)) rfl (hts _ q806) rfl dX3_work_78 ?_
            refine lv_iconst (v := 0) hx hb dX3_work_81 (by decide) ?_
            refine lv_iload hx hb dX3_work_82 (lv_at hl 0 rfl) ?_
            refine lv_iadd hx hb dX3_work_84 ?_
            refine xk_to (y := nI i68) (xk_0 i68) ?_
            refine mk_iald hAt hK hP 12 (f := mk_workR σ n (mk_hlpR σ nw n (n 3)) (mk_hlgR σ nw n (n 3)) nw i68) rfl i68 (by omega) (by decide) dX3_work_85 ?_
            refine lv_iconst (v := 3) hx hb dX3_work_86 (by decide) ?_
            have J251_4 : ∀ (H : Heap) (locs : List Loc) (ls : Array Slot) (znw : Nat → Int32), znw = (if (mk_workR σ n (mk_hlpR σ nw n (n 3)) (mk_hlgR σ nw n (n 3)) nw i68) i68 = 3 then (if mk_mts σ (mk_workR σ n (mk_hlpR σ nw n (n 3)) (mk_hlgR σ nw n (n 3)) nw i68) n (σ 6 i68) then (if (mk_wk0 (mk_workR σ n (mk_hlpR σ nw n (n 3)) (mk_hlgR σ nw n (n 3)) nw i68) i68) (80 + i68) ≤ σ 1 4 then mk_sizes (mk_wk0 (mk_workR σ n (mk_hlpR σ nw n (n 3)) (mk_hlgR σ nw n (n 3)) nw i68) i68) i68 (if mk_more (mk_isH (mk_hlpR σ nw n (n 3)) (mk_hlgR σ nw n (n 3)) i68) ((mk_workR σ n (mk_hlpR σ nw n (n 3)) (mk_hlgR σ nw n (n 3)) nw i68) (40 + i68)) ≤ 999 then mk_more (mk_isH (mk_hlpR σ nw n (n 3)) (mk_hlgR σ nw n (n 3)) i68) ((mk_workR σ n (mk_hlpR σ nw n (n 3)) (mk_hlgR σ nw n (n 3)) nw i68) (40 + i68)) else 999) else upd (mk_wk0 (mk_workR σ n (mk_hlpR σ nw n (n 3)) (mk_hlgR σ nw n (n 3)) nw i68) i68) i68 4) else (if 2 ≤ (((mk_workR σ n (mk_hlpR σ nw n (n 3)) (mk_hlgR σ nw n (n 3)) nw i68) (40 + i68)) / 2) then mk_sizes (mk_workR σ n (mk_hlpR σ nw n (n 3)) (mk_hlgR σ nw n (n 3)) nw i68) i68 (((mk_workR σ n (mk_hlpR σ nw n (n 3)) (mk_hlgR σ nw n (n 3)) nw i68) (40 + i68)) / 2) else mk_rem (mk_workR σ n (mk_hlpR σ nw n (n 3)) (mk_hlgR σ nw n (n 3)) nw i68) i68)) else mk_workR σ n (mk_hlpR σ nw n (n 3)) (mk_hlgR σ nw n (n 3)) nw i68) → mP D ad σ znw az ir n th H → va_S A s.heap H locs → lv_has ls 8 [(4, .int (nI i68)), (2, .long (mk_hlgR σ nw n (n 3))), (1, .int (mk_hlpR σ nw n (n 3))), (0, .ref (ad 0))] → W p l e (xk_R 5 112) s m args below meth c H locs 0 0 Q (F0 m 251 ls []) := by
              intro H locs ls znw eznw hP hS hl
              subst eznw
              refine lv_iinc (v := nI (i68 + 1)) (lv' := [(4, .int (nI (i68 + 1))), (2, .long (mk_hlgR σ nw n (n 3))), (1, .int (mk_hlpR σ nw n (n 3))), (0, .ref (ad 0))]) hx hb dX3_work_251 hl (k := 0) rfl (xk_inc i68) (by decide) rfl (fun ls hl => ?_)
              refine lv_goto (tgt := 68) hx hb dX3_work_254 (by decide) ?_
              exact ih68 (i68 + 1) (by omega) (by omega)  _ _ _ (if (mk_workR σ n (mk_hlpR σ nw n (n 3)) (mk_hlgR σ nw n (n 3)) nw i68) i68 = 3 then (if mk_mts σ (mk_workR σ n (mk_hlpR σ nw n (n 3)) (mk_hlgR σ nw n (n 3)) nw i68) n (σ 6 i68) then (if (mk_wk0 (mk_workR σ n (mk_hlpR σ nw n (n 3)) (mk_hlgR σ nw n (n 3)) nw i68) i68) (80 + i68) ≤ σ 1 4 then mk_sizes (mk_wk0 (mk_workR σ n (mk_hlpR σ nw n (n 3)) (mk_hlgR σ nw n (n 3)) nw i68) i68) i68 (if mk_more (mk_isH (mk_hlpR σ nw n (n 3)) (mk_hlgR σ nw n (n 3)) i68) ((mk_workR σ n (mk_hlpR σ nw n (n 3)) (mk_hlgR σ nw n (n 3)) nw i68) (40 + i68)) ≤ 999 then mk_more (mk_isH (mk_hlpR σ nw n (n 3)) (mk_hlgR σ nw n (n 3)) i68) ((mk_workR σ n (mk_hlpR σ nw n (n 3)) (mk_hlgR σ nw n (n 3)) nw i68) (40 + i68)) else 999) else upd (mk_wk0 (mk_workR σ n (mk_hlpR σ nw n (n 3)) (mk_hlgR σ nw n (n 3)) nw i68) i68) i68 4) else (if 2 ≤ (((mk_workR σ n (mk_hlpR σ nw n (n 3)) (mk_hlgR σ nw n (n 3)) nw i68) (40 + i68)) / 2) then mk_sizes (mk_workR σ n (mk_hlpR σ nw n (n 3)) (mk_hlgR σ nw n (n 3)) nw i68) i68 (((mk_workR σ n (mk_hlpR σ nw n (n 3)) (mk_hlgR σ nw n (n 3)) nw i68) (40 + i68)) / 2) else mk_rem (mk_workR σ n (mk_hlpR σ nw n (n 3)) (mk_hlgR σ nw n (n 3)) nw i68) i68)) else mk_workR σ n (mk_hlpR σ nw n (n 3)) (mk_hlgR σ nw n (n 3)) nw i68) (rfl) hP hS (lv_sub hl [0, 1, 2, 3] rfl)
            refine lv_icmp_ne (tgt := 251) hx hb dX3_work_87 (by decide) (fun c_3 => ?_) (fun c_3 => ?_)
            · skip
              exact J251_4 _ _ _ (mk_workR σ n (mk_hlpR σ nw n (n 3)) (mk_hlgR σ nw n (n 3)) nw i68) ((if_neg c_3).symm) hP hS (lv_sub hl [0, 1, 2, 3] rfl)
            refine lv_aload_n hx hb dX3_work_90 rfl (lv_at hl 3 rfl) ?_
            refine mk_get hAt hK hP 16 (by decide) (v := .ref (ad 12)) rfl (hts _ q806) rfl dX3_work_91 ?_
            refine lv_bipush (v := 40) hx hb dX3_work_94 (by decide) ?_
            refine lv_iload hx hb dX3_work_96 (lv_at hl 0 rfl) ?_
            refine lv_iadd hx hb dX3_work_98 ?_
            refine xk_to (y := nI (40 + i68)) (nI_add 40 i68) ?_
            refine mk_iald hAt hK hP 12 (f := mk_workR σ n (mk_hlpR σ nw n (n 3)) (mk_hlgR σ nw n (n 3)) nw i68) rfl (40 + i68) (by omega) (by decide) dX3_work_99 ?_
            refine lv_istore (lv' := [(5, .int ((mk_workR σ n (mk_hlpR σ nw n (n 3)) (mk_hlgR σ nw n (n 3)) nw i68) (40 + i68))), (4, .int (nI i68)), (2, .long (mk_hlgR σ nw n (n 3))), (1, .int (mk_hlpR σ nw n (n 3))), (0, .ref (ad 0))]) hx hb dX3_work_100 hl (by decide) rfl (fun ls hl => ?_)
            refine lv_aload_n hx hb dX3_work_102 rfl (lv_at hl 4 rfl) ?_
            refine lv_iload hx hb dX3_work_103 (lv_at hl 1 rfl) ?_
            refine mk_ciV hAt hK hP hA hS (As := [.int (nI i68)]) (rest := []) (m_meets l D A ad σ (mk_workR σ n (mk_hlpR σ nw n (n 3)) (mk_hlgR σ nw n (n 3)) nw i68) az ir n th hJ (by assumption) i68 (by omega)) (cwV 1 hts (lw_V q968 q970 qs23 q42 q971) rfl rfl rfl cdX3_meets ⟨Nat.le_of_ble_eq_true rfl, Nat.le_of_ble_eq_true rfl⟩) rfl hl.1 rfl (Nat.le_of_ble_eq_true rfl) dX3_work_105 ⟨Nat.le_refl _, Nat.le_refl _⟩ (fun r H locs hq hS => ?_)
            obtain ⟨rfl, hP⟩ := hq
            refine xk_ifne (tgt := 141) hx hb dX3_work_108 (by decide) (fun c_5 => ?_) (fun c_5 => ?_)
            · skip
              refine lv_aload_n hx hb dX3_work_141 rfl (lv_at hl 4 rfl) ?_
              refine mk_get hAt hK hP 16 (by decide) (v := .ref (ad 12)) rfl (hts _ q806) rfl dX3_work_142 ?_
              refine lv_bipush (v := 80) hx hb dX3_work_145 (by decide) ?_
              refine lv_iload hx hb dX3_work_147 (lv_at hl 1 rfl) ?_
              refine lv_iadd hx hb dX3_work_149 ?_
              refine xk_to (y := nI (80 + i68)) (nI_add 80 i68) ?_
              refine lv_dup2_11 hx hb dX3_work_150 rfl rfl ?_
              refine mk_iald hAt hK hP 12 (f := mk_workR σ n (mk_hlpR σ nw n (n 3)) (mk_hlgR σ nw n (n 3)) nw i68) rfl (80 + i68) (by omega) (by decide) dX3_work_151 ?_
              refine lv_iconst (v := 1) hx hb dX3_work_152 (by decide) ?_
              refine lv_iadd hx hb dX3_work_153 ?_
              refine mk_iast hAt hK hJ hP hS 12 (f := mk_workR σ n (mk_hlpR σ nw n (n 3)) (mk_hlgR σ nw n (n 3)) nw i68) rfl (80 + i68) (by omega) (by decide) (σ' := σ) (nw' := upd (mk_workR σ n (mk_hlpR σ nw n (n 3)) (mk_hlgR σ nw n (n 3)) nw i68) (80 + i68) (((mk_workR σ n (mk_hlpR σ nw n (n 3)) (mk_hlgR σ nw n (n 3)) nw i68) (80 + i68)) + 1)) (az' := az) rfl dX3_work_154 (fun H locs hP hS => ?_)
              have hP : mP D ad σ (mk_wk0 (mk_workR σ n (mk_hlpR σ nw n (n 3)) (mk_hlgR σ nw n (n 3)) nw i68) i68) az ir n th H := hP
              refine lv_iload_n hx hb dX3_work_155 rfl (lv_at hl 3 rfl) ?_
              refine lv_lload_n hx hb dX3_work_156 rfl (lv_at hl 2 rfl) ?_
              refine lv_iload hx hb dX3_work_157 (lv_at hl 1 rfl) ?_
              refine lv_lshr hx hb dX3_work_159 rfl ?_
              refine lv_lconst (v := 1) hx hb dX3_work_160 (by decide) ?_
              refine lv_land hx hb dX3_work_161 ?_
              refine lv_lconst (v := 1) hx hb dX3_work_162 (by decide) ?_
              refine W.lcmp hx hb dX3_work_163 ?_
              have J172_7 : ∀ (H : Heap) (locs : List Loc) (ls : Array Slot) (t0 : Int32), t0 = xk_b ((lg_cmp ((mk_hlgR σ nw n (n 3) >>> ((nI i68).toInt64 &&& 63)) &&& 1) 1) = 0) → mP D ad σ (mk_wk0 (mk_workR σ n (mk_hlpR σ nw n (n 3)) (mk_hlgR σ nw n (n 3)) nw i68) i68) az ir n th H → va_S A s.heap H locs → lv_has ls 8 [(5, .int ((mk_workR σ n (mk_hlpR σ nw n (n 3)) (mk_hlgR σ nw n (n 3)) nw i68) (40 + i68))), (4, .int (nI i68)), (2, .long (mk_hlgR σ nw n (n 3))), (1, .int (mk_hlpR σ nw n (n 3))), (0, .ref (ad 0))] → W p l e (xk_R 5 112) s m args below meth c H locs 0 0 Q (F0 m 172 ls [.int t0, .int (mk_hlpR σ nw n (n 3))]) := by
                intro H locs ls t0 et0 hP hS hl
                subst et0
                have J180_9 : ∀ (H : Heap) (locs : List Loc) (ls : Array Slot) (t0 : Int32), t0 = xk_b (¬ (mk_hlpR σ nw n (n 3) ≤ xk_b ((lg_cmp ((mk_hlgR σ nw n (n 3) >>> ((nI i68).toInt64 &&& 63)) &&& 1) 1) = 0))) → mP D ad σ (mk_wk0 (mk_workR σ n (mk_hlpR σ nw n (n 3)) (mk_hlgR σ nw n (n 3)) nw i68) i68) az ir n th H → va_S A s.heap H locs → lv_has ls 8 [(5, .int ((mk_workR σ n (mk_hlpR σ nw n (n 3)) (mk_hlgR σ nw n (n 3)) nw i68) (40 + i68))), (4, .int (nI i68)), (2, .long (mk_hlgR σ nw n (n 3))), (1, .int (mk_hlpR σ nw n (n 3))), (0, .ref (ad 0))] → W p l e (xk_R 5 112) s m args below meth c H locs 0 0 Q (F0 m 180 ls [.int t0]) := by
                  intro H locs ls t0 et0 hP hS hl
                  subst et0
                  refine lv_istore (lv' := [(6, .int (xk_b (¬ (mk_hlpR σ nw n (n 3) ≤ xk_b ((lg_cmp ((mk_hlgR σ nw n (n 3) >>> ((nI i68).toInt64 &&& 63)) &&& 1) 1) = 0))))), (5, .int ((mk_workR σ n (mk_hlpR σ nw n (n 3)) (mk_hlgR σ nw n (n 3)) nw i68) (40 + i68))), (4, .int (nI i68)), (2, .long (mk_hlgR σ nw n (n 3))), (1, .int (mk_hlpR σ nw n (n 3))), (0, .ref (ad 0))]) hx hb dX3_work_180 hl (by decide) rfl (fun ls hl => ?_)
                  have hl : lv_has ls 8 [(6, .int (xk_b (mk_isH (mk_hlpR σ nw n (n 3)) (mk_hlgR σ nw n (n 3)) i68))), (5, .int ((mk_workR σ n (mk_hlpR σ nw n (n 3)) (mk_hlgR σ nw n (n 3)) nw i68) (40 + i68))), (4, .int (nI i68)), (2, .long (mk_hlgR σ nw n (n 3))), (1, .int (mk_hlpR σ nw n (n 3))), (0, .ref (ad 0))] := hl
                  refine lv_aload_n hx hb dX3_work_182 rfl (lv_at hl 5 rfl) ?_
                  refine mk_get hAt hK hP 16 (by decide) (v := .ref (ad 12)) rfl (hts _ q806) rfl dX3_work_183 ?_
                  refine lv_bipush (v := 80) hx hb dX3_work_186 (by decide) ?_
                  refine lv_iload hx hb dX3_work_188 (lv_at hl 2 rfl) ?_
                  refine lv_iadd hx hb dX3_work_190 ?_
                  refine xk_to (y := nI (80 + i68)) (nI_add 80 i68) ?_
                  refine mk_iald hAt hK hP 12 (f := mk_wk0 (mk_workR σ n (mk_hlpR σ nw n (n 3)) (mk_hlgR σ nw n (n 3)) nw i68) i68) rfl (80 + i68) (by omega) (by decide) dX3_work_191 ?_
                  refine lv_aload_n hx hb dX3_work_192 rfl (lv_at hl 5 rfl) ?_
                  refine mk_get hAt hK hP 1 (by decide) (v := .ref (ad 2)) rfl (hts _ q791) rfl dX3_work_193 ?_
                  refine lv_iconst (v := 4) hx hb dX3_work_196 (by decide) ?_
                  refine mk_iald hAt hK hP 2 (f := σ 1) rfl 4 (by omega) (by decide) dX3_work_197 ?_
                  refine lv_icmp_le (tgt := 214) hx hb dX3_work_198 (by decide) (fun c_10 => ?_) (fun c_10 => ?_)
                  · skip
                    refine lv_iload hx hb dX3_work_214 (lv_at hl 0 rfl) ?_
                    have J224_12 : ∀ (H : Heap) (locs : List Loc) (ls : Array Slot) (t0 : Int32), t0 = (if mk_isH (mk_hlpR σ nw n (n 3)) (mk_hlgR σ nw n (n 3)) i68 then 3 else 2) → mP D ad σ (mk_wk0 (mk_workR σ n (mk_hlpR σ nw n (n 3)) (mk_hlgR σ nw n (n 3)) nw i68) i68) az ir n th H → va_S A s.heap H locs → lv_has ls 8 [(6, .int (xk_b (mk_isH (mk_hlpR σ nw n (n 3)) (mk_hlgR σ nw n (n 3)) i68))), (5, .int ((mk_workR σ n (mk_hlpR σ nw n (n 3)) (mk_hlgR σ nw n (n 3)) nw i68) (40 + i68))), (4, .int (nI i68)), (2, .long (mk_hlgR σ nw n (n 3))), (1, .int (mk_hlpR σ nw n (n 3))), (0, .ref (ad 0))] → W p l e (xk_R 5 112) s m args below meth c H locs 0 0 Q (F0 m 224 ls [.int t0]) := by
                      intro H locs ls t0 et0 hP hS hl
                      subst et0
                      refine lv_iload hx hb dX3_work_224 (lv_at hl 1 rfl) ?_
                      refine lv_imul hx hb dX3_work_226 ?_
                      refine lv_istore (lv' := [(7, .int ((if mk_isH (mk_hlpR σ nw n (n 3)) (mk_hlgR σ nw n (n 3)) i68 then 3 else 2) * ((mk_workR σ n (mk_hlpR σ nw n (n 3)) (mk_hlgR σ nw n (n 3)) nw i68) (40 + i68)))), (6, .int (xk_b (mk_isH (mk_hlpR σ nw n (n 3)) (mk_hlgR σ nw n (n 3)) i68))), (5, .int ((mk_workR σ n (mk_hlpR σ nw n (n 3)) (mk_hlgR σ nw n (n 3)) nw i68) (40 + i68))), (4, .int (nI i68)), (2, .long (mk_hlgR σ nw n (n 3))), (1, .int (mk_hlpR σ nw n (n 3))), (0, .ref (ad 0))]) hx hb dX3_work_227 hl (by decide) rfl (fun ls hl => ?_)
                      have hl : lv_has ls 8 [(7, .int (mk_more (mk_isH (mk_hlpR σ nw n (n 3)) (mk_hlgR σ nw n (n 3)) i68) ((mk_workR σ n (mk_hlpR σ nw n (n 3)) (mk_hlgR σ nw n (n 3)) nw i68) (40 + i68)))), (6, .int (xk_b (mk_isH (mk_hlpR σ nw n (n 3)) (mk_hlgR σ nw n (n 3)) i68))), (5, .int ((mk_workR σ n (mk_hlpR σ nw n (n 3)) (mk_hlgR σ nw n (n 3)) nw i68) (40 + i68))), (4, .int (nI i68)), (2, .long (mk_hlgR σ nw n (n 3))), (1, .int (mk_hlpR σ nw n (n 3))), (0, .ref (ad 0))] := hl
                      refine lv_aload_n hx hb dX3_work_229 rfl (lv_at hl 6 rfl) ?_
                      refine lv_iload hx hb dX3_work_230 (lv_at hl 3 rfl) ?_
                      refine lv_iload hx hb dX3_work_232 (lv_at hl 0 rfl) ?_
                      refine lv_sipush (v := 999) hx hb dX3_work_234 (by decide) ?_
                      have J248_14 : ∀ (H : Heap) (locs : List Loc) (ls : Array Slot) (t0 : Int32), t0 = (if mk_more (mk_isH (mk_hlpR σ nw n (n 3)) (mk_hlgR σ nw n (n 3)) i68) ((mk_workR σ n (mk_hlpR σ nw n (n 3)) (mk_hlgR σ nw n (n 3)) nw i68) (40 + i68)) ≤ 999 then mk_more (mk_isH (mk_hlpR σ nw n (n 3)) (mk_hlgR σ nw n (n 3)) i68) ((mk_workR σ n (mk_hlpR σ nw n (n 3)) (mk_hlgR σ nw n (n 3)) nw i68) (40 + i68)) else 999) → mP D ad σ (mk_wk0 (mk_workR σ n (mk_hlpR σ nw n (n 3)) (mk_hlgR σ nw n (n 3)) nw i68) i68) az ir n th H → va_S A s.heap H locs → lv_has ls 8 [(7, .int (mk_more (mk_isH (mk_hlpR σ nw n (n 3)) (mk_hlgR σ nw n (n 3)) i68) ((mk_workR σ n (mk_hlpR σ nw n (n 3)) (mk_hlgR σ nw n (n 3)) nw i68) (40 + i68)))), (6, .int (xk_b (mk_isH (mk_hlpR σ nw n (n 3)) (mk_hlgR σ nw n (n 3)) i68))), (5, .int ((mk_workR σ n (mk_hlpR σ nw n (n 3)) (mk_hlgR σ nw n (n 3)) nw i68) (40 + i68))), (4, .int (nI i68)), (2, .long (mk_hlgR σ nw n (n 3))), (1, .int (mk_hlpR σ nw n (n 3))), (0, .ref (ad 0))] → W p l e (xk_R 5 112) s m args below meth c H locs 0 0 Q (F0 m 248 ls [.int t0, .int (nI i68), .ref (ad 0)]) := by
                        intro H locs ls t0 et0 hP hS hl
                        subst et0
                        refine mk_cvV hAt hK hP hA hS (As := [.int (nI i68), .int (if mk_more (mk_isH (mk_hlpR σ nw n (n 3)) (mk_hlgR σ nw n (n 3)) i68) ((mk_workR σ n (mk_hlpR σ nw n (n 3)) (mk_hlgR σ nw n (n 3)) nw i68) (40 + i68)) ≤ 999 then mk_more (mk_isH (mk_hlpR σ nw n (n 3)) (mk_hlgR σ nw n (n 3)) i68) ((mk_workR σ n (mk_hlpR σ nw n (n 3)) (mk_hlgR σ nw n (n 3)) nw i68) (40 + i68)) else 999)]) (rest := []) (m_sizes l D A ad σ (mk_wk0 (mk_workR σ n (mk_hlpR σ nw n (n 3)) (mk_hlgR σ nw n (n 3)) nw i68) i68) az ir n th hJ i68 (by omega) (if mk_more (mk_isH (mk_hlpR σ nw n (n 3)) (mk_hlgR σ nw n (n 3)) i68) ((mk_workR σ n (mk_hlpR σ nw n (n 3)) (mk_hlgR σ nw n (n 3)) nw i68) (40 + i68)) ≤ 999 then mk_more (mk_isH (mk_hlpR σ nw n (n 3)) (mk_hlgR σ nw n (n 3)) i68) ((mk_workR σ n (mk_hlpR σ nw n (n 3)) (mk_hlgR σ nw n (n 3)) nw i68) (40 + i68)) else 999)) (cwV 2 hts (lw_V q984 q986 qs27 q42 q987) rfl rfl rfl cdX3_sizes ⟨Nat.le_of_ble_eq_true rfl, Nat.le_of_ble_eq_true rfl⟩) rfl hl.1 rfl (Nat.le_of_ble_eq_true rfl) dX3_work_248 ⟨Nat.le_refl _, Nat.le_refl _⟩ (fun H locs hP hS => ?_)
                        exact J251_4 _ _ _ (mk_sizes (mk_wk0 (mk_workR σ n (mk_hlpR σ nw n (n 3)) (mk_hlgR σ nw n (n 3)) nw i68) i68) i68 (if mk_more (mk_isH (mk_hlpR σ nw n (n 3)) (mk_hlgR σ nw n (n 3)) i68) ((mk_workR σ n (mk_hlpR σ nw n (n 3)) (mk_hlgR σ nw n (n 3)) nw i68) (40 + i68)) ≤ 999 then mk_more (mk_isH (mk_hlpR σ nw n (n 3)) (mk_hlgR σ nw n (n 3)) i68) ((mk_workR σ n (mk_hlpR σ nw n (n 3)) (mk_hlgR σ nw n (n 3)) nw i68) (40 + i68)) else 999)) ((((if_pos c_10).symm).trans (if_pos c_5).symm).trans (if_pos c_3).symm) hP hS (lv_sub hl [3, 4, 5, 6] rfl)
                      refine lv_icmp_le (tgt := 246) hx hb dX3_work_237 (by decide) (fun c_13 => ?_) (fun c_13 => ?_)
                      · skip
                        refine lv_iload hx hb dX3_work_246 (lv_at hl 0 rfl) ?_
                        exact J248_14 _ _ _ (mk_more (mk_isH (mk_hlpR σ nw n (n 3)) (mk_hlgR σ nw n (n 3)) i68) ((mk_workR σ n (mk_hlpR σ nw n (n 3)) (mk_hlgR σ nw n (n 3)) nw i68) (40 + i68))) ((if_pos c_13).symm) hP hS (lv_sub hl [0, 1, 2, 3, 4, 5, 6] rfl)
                      refine lv_sipush (v := 999) hx hb dX3_work_240 (by decide) ?_
                      refine lv_goto (tgt := 248) hx hb dX3_work_243 (by decide) ?_
                      exact J248_14 _ _ _ 999 ((if_neg c_13).symm) hP hS (lv_sub hl [0, 1, 2, 3, 4, 5, 6] rfl)
                    refine xk_ifeq (tgt := 223) hx hb dX3_work_216 (by decide) (fun c_11 => ?_) (fun c_11 => ?_)
                    · skip
                      refine lv_iconst (v := 2) hx hb dX3_work_223 (by decide) ?_
                      exact J224_12 _ _ _ 2 ((if_neg c_11).symm) hP hS (lv_sub hl [0, 1, 2, 3, 4, 5] rfl)
                    refine lv_iconst (v := 3) hx hb dX3_work_219 (by decide) ?_
                    refine lv_goto (tgt := 224) hx hb dX3_work_220 (by decide) ?_
                    exact J224_12 _ _ _ 3 ((if_pos c_11).symm) hP hS (lv_sub hl [0, 1, 2, 3, 4, 5] rfl)
                  refine lv_aload_n hx hb dX3_work_201 rfl (lv_at hl 5 rfl) ?_
                  refine mk_get hAt hK hP 16 (by decide) (v := .ref (ad 12)) rfl (hts _ q806) rfl dX3_work_202 ?_
                  refine lv_iconst (v := 0) hx hb dX3_work_205 (by decide) ?_
                  refine lv_iload hx hb dX3_work_206 (lv_at hl 2 rfl) ?_
                  refine lv_iadd hx hb dX3_work_208 ?_
                  refine xk_to (y := nI i68) (xk_0 i68) ?_
                  refine lv_iconst (v := 4) hx hb dX3_work_209 (by decide) ?_
                  refine mk_iast hAt hK hJ hP hS 12 (f := mk_wk0 (mk_workR σ n (mk_hlpR σ nw n (n 3)) (mk_hlgR σ nw n (n 3)) nw i68) i68) rfl i68 (by omega) (by decide) (σ' := σ) (nw' := upd (mk_wk0 (mk_workR σ n (mk_hlpR σ nw n (n 3)) (mk_hlgR σ nw n (n 3)) nw i68) i68) i68 4) (az' := az) rfl dX3_work_210 (fun H locs hP hS => ?_)
                  refine lv_goto (tgt := 251) hx hb dX3_work_211 (by decide) ?_
                  exact J251_4 _ _ _ (upd (mk_wk0 (mk_workR σ n (mk_hlpR σ nw n (n 3)) (mk_hlgR σ nw n (n 3)) nw i68) i68) i68 4) ((((if_neg c_10).symm).trans (if_pos c_5).symm).trans (if_pos c_3).symm) hP hS (lv_sub hl [2, 3, 4, 5] rfl)
                refine lv_icmp_le (tgt := 179) hx hb dX3_work_172 (by decide) (fun c_8 => ?_) (fun c_8 => ?_)
                · skip
                  refine lv_iconst (v := 0) hx hb dX3_work_179 (by decide) ?_
                  exact J180_9 _ _ _ 0 ((if_neg (fun h => h c_8)).symm) hP hS (lv_sub hl [0, 1, 2, 3, 4] rfl)
                refine lv_iconst (v := 1) hx hb dX3_work_175 (by decide) ?_
                refine lv_goto (tgt := 180) hx hb dX3_work_176 (by decide) ?_
                exact J180_9 _ _ _ 1 ((if_pos c_8).symm) hP hS (lv_sub hl [0, 1, 2, 3, 4] rfl)
              refine lv_if_ne (tgt := 171) hx hb dX3_work_164 (by decide) (fun c_6 => ?_) (fun c_6 => ?_)
              · skip
                refine lv_iconst (v := 0) hx hb dX3_work_171 (by decide) ?_
                exact J172_7 _ _ _ 0 ((if_neg c_6).symm) hP hS (lv_sub hl [0, 1, 2, 3, 4] rfl)
              refine lv_iconst (v := 1) hx hb dX3_work_167 (by decide) ?_
              refine lv_goto (tgt := 172) hx hb dX3_work_168 (by decide) ?_
              exact J172_7 _ _ _ 1 ((if_pos c_6).symm) hP hS (lv_sub hl [0, 1, 2, 3, 4] rfl)
            refine lv_iload hx hb dX3_work_111 (lv_at hl 0 rfl) ?_
            refine lv_iconst (v := 2) hx hb dX3_work_113 (by decide) ?_
            refine lv_idiv hx hb dX3_work_114 (by decide) ?_
            refine lv_iconst (v := 2) hx hb dX3_work_115 (by decide) ?_
            refine lv_icmp_ge (tgt := 128) hx hb dX3_work_116 (by decide) (fun c_15 => ?_) (fun c_15 => ?_)
            · skip
              refine lv_aload_n hx hb dX3_work_128 rfl (lv_at hl 4 rfl) ?_
              refine lv_iload hx hb dX3_work_129 (lv_at hl 1 rfl) ?_
              refine lv_iload hx hb dX3_work_131 (lv_at hl 0 rfl) ?_
              refine lv_iconst (v := 2) hx hb dX3_work_133 (by decide) ?_
              refine lv_idiv hx hb dX3_work_134 (by decide) ?_
              refine mk_cvV hAt hK hP hA hS (As := [.int (nI i68), .int (((mk_workR σ n (mk_hlpR σ nw n (n 3)) (mk_hlgR σ nw n (n 3)) nw i68) (40 + i68)) / 2)]) (rest := []) (m_sizes l D A ad σ (mk_workR σ n (mk_hlpR σ nw n (n 3)) (mk_hlgR σ nw n (n 3)) nw i68) az ir n th hJ i68 (by omega) (((mk_workR σ n (mk_hlpR σ nw n (n 3)) (mk_hlgR σ nw n (n 3)) nw i68) (40 + i68)) / 2)) (cwV 2 hts (lw_V q984 q986 qs27 q42 q987) rfl rfl rfl cdX3_sizes ⟨Nat.le_of_ble_eq_true rfl, Nat.le_of_ble_eq_true rfl⟩) rfl hl.1 rfl (Nat.le_of_ble_eq_true rfl) dX3_work_135 ⟨Nat.le_refl _, Nat.le_refl _⟩ (fun H locs hP hS => ?_)
              refine lv_goto (tgt := 251) hx hb dX3_work_138 (by decide) ?_
              exact J251_4 _ _ _ (mk_sizes (mk_workR σ n (mk_hlpR σ nw n (n 3)) (mk_hlgR σ nw n (n 3)) nw i68) i68 (((mk_workR σ n (mk_hlpR σ nw n (n 3)) (mk_hlgR σ nw n (n 3)) nw i68) (40 + i68)) / 2)) ((((if_pos c_15).symm).trans (if_neg c_5).symm).trans (if_pos c_3).symm) hP hS (lv_sub hl [1, 2, 3, 4] rfl)
            refine lv_aload_n hx hb dX3_work_119 rfl (lv_at hl 4 rfl) ?_
            refine lv_iload hx hb dX3_work_120 (lv_at hl 1 rfl) ?_
            refine mk_cvV hAt hK hP hA hS (As := [.int (nI i68)]) (rest := []) (m_remembers l D A ad σ (mk_workR σ n (mk_hlpR σ nw n (n 3)) (mk_hlgR σ nw n (n 3)) nw i68) az ir n th hJ i68 (by omega)) (cwV 1 hts (lw_V q980 q982 qs26 q42 q983) rfl rfl rfl cdX3_remembers ⟨Nat.le_of_ble_eq_true rfl, Nat.le_of_ble_eq_true rfl⟩) rfl hl.1 rfl (Nat.le_of_ble_eq_true rfl) dX3_work_122 ⟨Nat.le_refl _, Nat.le_refl _⟩ (fun H locs hP hS => ?_)
            refine lv_goto (tgt := 251) hx hb dX3_work_125 (by decide) ?_
            exact J251_4 _ _ _ (mk_rem (mk_workR σ n (mk_hlpR σ nw n (n 3)) (mk_hlgR σ nw n (n 3)) nw i68) i68) ((((if_neg c_15).symm).trans (if_neg c_5).symm).trans (if_pos c_3).symm) hP hS (lv_sub hl [1, 2, 3, 4] rfl)
        exact L68 (n 3 + 1) 0 (by omega) (by omega)  _ _ _ nw (rfl) hP hS (lv_sub hl [0, 1, 2, 3] rfl)
      refine lv_aload_n hx hb dX3_work_16 rfl (lv_at hl 3 rfl) ?_
      refine mk_get hAt hK hP 16 (by decide) (v := .ref (ad 12)) rfl (hts _ q806) rfl dX3_work_17 ?_
      refine lv_iconst (v := 0) hx hb dX3_work_20 (by decide) ?_
      refine lv_iload hx hb dX3_work_21 (lv_at hl 0 rfl) ?_
      refine lv_iadd hx hb dX3_work_23 ?_
      refine xk_to (y := nI i7) (xk_0 i7) ?_
      refine mk_iald hAt hK hP 12 (f := nw) rfl i7 (by omega) (by decide) dX3_work_24 ?_
      refine lv_iconst (v := 3) hx hb dX3_work_25 (by decide) ?_
      have J59_17 : ∀ (H : Heap) (locs : List Loc) (ls : Array Slot) (v2 : Int64) (v1 : Int32), v2 = (if nw i7 = 3 then (if σ 7 i7 = 1 then (if mk_mts σ nw n (σ 6 i7) then (mk_hlgR σ nw n i7 ||| (1 <<< ((nI i7).toInt64 &&& 63))) else mk_hlgR σ nw n i7) else mk_hlgR σ nw n i7) else mk_hlgR σ nw n i7) → v1 = (if nw i7 = 3 then (if σ 7 i7 = 1 then (if mk_mts σ nw n (σ 6 i7) then (mk_hlpR σ nw n i7 + 1) else mk_hlpR σ nw n i7) else mk_hlpR σ nw n i7) else mk_hlpR σ nw n i7) → mP D ad σ nw az ir n th H → va_S A s.heap H locs → lv_has ls 8 [(2, .long v2), (1, .int v1), (4, .int (nI i7)), (0, .ref (ad 0))] → W p l e (xk_R 5 112) s m args below meth c H locs 0 0 Q (F0 m 59 ls []) := by
        intro H locs ls v2 v1 ev2 ev1 hP hS hl
        subst ev2
        subst ev1
        refine lv_iinc (v := nI (i7 + 1)) (lv' := [(4, .int (nI (i7 + 1))), (2, .long (if nw i7 = 3 then (if σ 7 i7 = 1 then (if mk_mts σ nw n (σ 6 i7) then (mk_hlgR σ nw n i7 ||| (1 <<< ((nI i7).toInt64 &&& 63))) else mk_hlgR σ nw n i7) else mk_hlgR σ nw n i7) else mk_hlgR σ nw n i7)), (1, .int (if nw i7 = 3 then (if σ 7 i7 = 1 then (if mk_mts σ nw n (σ 6 i7) then (mk_hlpR σ nw n i7 + 1) else mk_hlpR σ nw n i7) else mk_hlpR σ nw n i7) else mk_hlpR σ nw n i7)), (0, .ref (ad 0))]) hx hb dX3_work_59 hl (k := 2) rfl (xk_inc i7) (by decide) rfl (fun ls hl => ?_)
        refine lv_goto (tgt := 7) hx hb dX3_work_62 (by decide) ?_
        exact ih7 (i7 + 1) (by omega) (by omega)  _ _ _ (if nw i7 = 3 then (if σ 7 i7 = 1 then (if mk_mts σ nw n (σ 6 i7) then (mk_hlpR σ nw n i7 + 1) else mk_hlpR σ nw n i7) else mk_hlpR σ nw n i7) else mk_hlpR σ nw n i7) (if nw i7 = 3 then (if σ 7 i7 = 1 then (if mk_mts σ nw n (σ 6 i7) then (mk_hlgR σ nw n i7 ||| (1 <<< ((nI i7).toInt64 &&& 63))) else mk_hlgR σ nw n i7) else mk_hlgR σ nw n i7) else mk_hlgR σ nw n i7) (rfl) (rfl) hP hS (lv_sub hl [0, 1, 2, 3] rfl)
      refine lv_icmp_ne (tgt := 59) hx hb dX3_work_26 (by decide) (fun c_16 => ?_) (fun c_16 => ?_)
      · skip
        exact J59_17 _ _ _ (mk_hlgR σ nw n i7) (mk_hlpR σ nw n i7) ((if_neg c_16).symm) ((if_neg c_16).symm) hP hS (lv_sub hl [1, 2, 0, 3] rfl)
      refine lv_aload_n hx hb dX3_work_29 rfl (lv_at hl 3 rfl) ?_
      refine mk_get hAt hK hP 11 (by decide) (v := .ref (ad 8)) rfl (hts _ q801) rfl dX3_work_30 ?_
      refine lv_iload hx hb dX3_work_33 (lv_at hl 0 rfl) ?_
      refine mk_iald hAt hK hP 8 (f := σ 7) rfl i7 (by omega) (by decide) dX3_work_35 ?_
      refine lv_iconst (v := 1) hx hb dX3_work_36 (by decide) ?_
      refine lv_icmp_ne (tgt := 59) hx hb dX3_work_37 (by decide) (fun c_18 => ?_) (fun c_18 => ?_)
      · skip
        exact J59_17 _ _ _ (mk_hlgR σ nw n i7) (mk_hlpR σ nw n i7) (((if_neg c_18).symm).trans (if_pos c_16).symm) (((if_neg c_18).symm).trans (if_pos c_16).symm) hP hS (lv_sub hl [1, 2, 0, 3] rfl)
      refine lv_aload_n hx hb dX3_work_40 rfl (lv_at hl 3 rfl) ?_
      refine lv_iload hx hb dX3_work_41 (lv_at hl 0 rfl) ?_
      refine mk_ciV hAt hK hP hA hS (As := [.int (nI i7)]) (rest := []) (m_meets l D A ad σ nw az ir n th hJ (by assumption) i7 (by omega)) (cwV 1 hts (lw_V q968 q970 qs23 q42 q971) rfl rfl rfl cdX3_meets ⟨Nat.le_of_ble_eq_true rfl, Nat.le_of_ble_eq_true rfl⟩) rfl hl.1 rfl (Nat.le_of_ble_eq_true rfl) dX3_work_43 ⟨Nat.le_refl _, Nat.le_refl _⟩ (fun r H locs hq hS => ?_)
      obtain ⟨rfl, hP⟩ := hq
      refine xk_ifeq (tgt := 59) hx hb dX3_work_46 (by decide) (fun c_19 => ?_) (fun c_19 => ?_)
      · skip
        exact J59_17 _ _ _ (mk_hlgR σ nw n i7) (mk_hlpR σ nw n i7) ((((if_neg c_19).symm).trans (if_pos c_18).symm).trans (if_pos c_16).symm) ((((if_neg c_19).symm).trans (if_pos c_18).symm).trans (if_pos c_16).symm) hP hS (lv_sub hl [1, 2, 0, 3] rfl)
      refine lv_iinc (v := (mk_hlpR σ nw n i7 + 1)) (lv' := [(1, .int (mk_hlpR σ nw n i7 + 1)), (4, .int (nI i7)), (2, .long (mk_hlgR σ nw n i7)), (0, .ref (ad 0))]) hx hb dX3_work_49 hl (k := 2) rfl rfl (by decide) rfl (fun ls hl => ?_)
      refine lv_lload_n hx hb dX3_work_52 rfl (lv_at hl 2 rfl) ?_
      refine lv_lconst (v := 1) hx hb dX3_work_53 (by decide) ?_
      refine lv_iload hx hb dX3_work_54 (lv_at hl 1 rfl) ?_
      refine lv_lshl hx hb dX3_work_56 rfl ?_
      refine lv_lor hx hb dX3_work_57 ?_
      refine lv_lstore_n (lv' := [(2, .long (mk_hlgR σ nw n i7 ||| (1 <<< ((nI i7).toInt64 &&& 63)))), (1, .int (mk_hlpR σ nw n i7 + 1)), (4, .int (nI i7)), (0, .ref (ad 0))]) hx hb dX3_work_58 rfl hl (by decide) rfl (fun ls hl => ?_)
      exact J59_17 _ _ _ (mk_hlgR σ nw n i7 ||| (1 <<< ((nI i7).toInt64 &&& 63))) (mk_hlpR σ nw n i7 + 1) ((((if_pos c_19).symm).trans (if_pos c_18).symm).trans (if_pos c_16).symm) ((((if_pos c_19).symm).trans (if_pos c_18).symm).trans (if_pos c_16).symm) hP hS (lv_sub hl [0, 1, 2, 3] rfl)
  exact L7 (n 3 + 1) 0 (by omega) (by omega)  _ _ _ 0 0 (rfl) (rfl) hP hS (lv_sub hl [0, 1, 2, 3] rfl)
set_option maxHeartbeats 4000000 in
theorem m_harms (l : Launch) (D : xk_G) (A : Nat → Prop) (ad : Nat → Nat) (σ : Nat → Nat → Int32) (nw az ir : Nat → Int32) (n : Nat → Nat) (th : Int32) (hJ : mk_ok A ad) (h0 : n 0 ≤ 8) (h3 : n 3 ≤ 40) : Met l yX3_harms (ws_ yX3_harms cX3_harms 5 (none)) (xk_R 4 90) (xk_Pre D A (mP D ad σ nw az ir n th) [.ref (ad 0)]) (xk_Pv A (fun H => mP D ad σ (mk_harmR σ n nw (n 3)) az ir n th H)) 0 0 A := by
  refine xk_startV (by decide +kernel) (Nat.le_of_ble_eq_true rfl) ?_
  intro p e s m args below meth c Q hAt hin hK hA hP hR ls hl
  obtain ⟨hx, hb, hml, hown, hts⟩ := id hAt
  have hl : lv_has ls 5 [(0, .ref (ad 0))] := hl
  have hS : va_S A s.heap s.heap [] := va_S.rf
  refine lv_iconst (v := 0) hx hb dX3_harms_0 (by decide) ?_
  refine lv_istore_n (lv' := [(1, .int 0), (0, .ref (ad 0))]) hx hb dX3_harms_1 rfl hl (by decide) rfl (fun ls hl => ?_)
  have L2 : ∀ (j i2 : Nat), n 3 + 1 ≤ i2 + j → i2 ≤ n 3 → ∀ (H : Heap) (locs : List Loc) (ls : Array Slot) (znw : Nat → Int32), znw = mk_harmR σ n nw i2 → mP D ad σ znw az ir n th H → va_S A s.heap H locs → lv_has ls 5 [(1, .int (nI i2)), (0, .ref (ad 0))] → W p l e (xk_R 4 90) s m args below meth c H locs 0 0 Q (F0 m 2 ls []) := by
    intro j
    induction j with
    | zero => intro i2 h2a h2b; exact absurd h2a (by omega)
    | succ j ih2 =>
      intro i2 h2a h2b  H locs ls znw eznw hP hS hl
      subst eznw
      refine lv_iload_n hx hb dX3_harms_2 rfl (lv_at hl 0 rfl) ?_
      refine lv_aload_n hx hb dX3_harms_3 rfl (lv_at hl 1 rfl) ?_
      refine mk_get hAt hK hP 9 (by decide) (v := .int (nI (n 3))) rfl (hts _ q799) rfl dX3_harms_4 ?_
      refine mk_ge (tgt := 151) (a := i2) (b := n 3) hx hb (by omega) (by omega) dX3_harms_7 (by decide) (fun c_1 => ?_) (fun c_1 => ?_)
      · skip
        obtain rfl : i2 = n 3 := by omega
        exact hR _ _ _ _ dX3_harms_151 (hP) hS
      refine lv_iconst (v := (-1)) hx hb dX3_harms_10 (by decide) ?_
      refine lv_istore_n (lv' := [(2, .int (-1)), (1, .int (nI i2)), (0, .ref (ad 0))]) hx hb dX3_harms_11 rfl hl (by decide) rfl (fun ls hl => ?_)
      refine lv_iconst (v := 0) hx hb dX3_harms_12 (by decide) ?_
      refine lv_istore_n (lv' := [(3, .int 0), (2, .int (-1)), (1, .int (nI i2)), (0, .ref (ad 0))]) hx hb dX3_harms_13 rfl hl (by decide) rfl (fun ls hl => ?_)
      have L14 : ∀ (j i14 : Nat), n 0 + 1 ≤ i14 + j → i14 ≤ n 0 → (i14 = 0 ∨ mk_stk σ (mk_harmR σ n nw i2) i2) → ∀ (H : Heap) (locs : List Loc) (ls : Array Slot) (v2 : Int32), v2 = mk_otR σ (σ 6 i2) i14 → mP D ad σ (mk_harmR σ n nw i2) az ir n th H → va_S A s.heap H locs → lv_has ls 5 [(3, .int (nI i14)), (2, .int v2), (1, .int (nI i2)), (0, .ref (ad 0))] → W p l e (xk_R 4 90) s m args below meth c H locs 0 0 Q (F0 m 14 ls []) := by
        intro j
        induction j with
        | zero => intro i14 h14a h14b; exact absurd h14a (by omega)
        | succ j ih14 =>
          intro i14 h14a h14b hi14_0 H locs ls v2 ev2 hP hS hl
          subst ev2
          refine lv_iload_n hx hb dX3_harms_14 rfl (lv_at hl 0 rfl) ?_
          refine lv_aload_n hx hb dX3_harms_15 rfl (lv_at hl 3 rfl) ?_
          refine mk_get hAt hK hP 2 (by decide) (v := .int (nI (n 0))) rfl (hts _ q792) rfl dX3_harms_16 ?_
          have J105_3 : ∀ (H : Heap) (locs : List Loc) (ls : Array Slot) (v2 : Int32), v2 = mk_oit σ (mk_harmR σ n nw i2) n i2 → mP D ad σ (mk_harmR σ n nw i2) az ir n th H → va_S A s.heap H locs → lv_has ls 5 [(3, .int (nI i14)), (2, .int v2), (1, .int (nI i2)), (0, .ref (ad 0))] → W p l e (xk_R 4 90) s m args below meth c H locs 0 0 Q (F0 m 105 ls []) := by
            intro H locs ls v2 ev2 hP hS hl
            subst ev2
            refine lv_iload_n hx hb dX3_harms_105 rfl (lv_at hl 1 rfl) ?_
            refine lv_iconst (v := (-1)) hx hb dX3_harms_106 (by decide) ?_
            have J145_5 : ∀ (H : Heap) (locs : List Loc) (ls : Array Slot) (v2 : Int32) (znw : Nat → Int32), v2 = (if mk_oit σ (mk_harmR σ n nw i2) n i2 = (-1) then mk_oit σ (mk_harmR σ n nw i2) n i2 else nI ((mk_oit σ (mk_harmR σ n nw i2) n i2).toNatClampNeg)) → znw = (if mk_oit σ (mk_harmR σ n nw i2) n i2 = (-1) then mk_harmR σ n nw i2 else (if mk_clm σ n (σ 2 ((mk_oit σ (mk_harmR σ n nw i2) n i2).toNatClampNeg)) = 0 then upd (mk_harmR σ n nw i2) (144 + (mk_oit σ (mk_harmR σ n nw i2) n i2).toNatClampNeg) (((mk_harmR σ n nw i2) (144 + (mk_oit σ (mk_harmR σ n nw i2) n i2).toNatClampNeg)) + ((mk_harmR σ n nw i2) (40 + i2))) else mk_harmR σ n nw i2)) → mP D ad σ znw az ir n th H → va_S A s.heap H locs → lv_has ls 5 [(3, .int (nI i14)), (2, .int v2), (1, .int (nI i2)), (0, .ref (ad 0))] → W p l e (xk_R 4 90) s m args below meth c H locs 0 0 Q (F0 m 145 ls []) := by
              intro H locs ls v2 znw ev2 eznw hP hS hl
              subst ev2
              subst eznw
              refine lv_iinc (v := nI (i2 + 1)) (lv' := [(1, .int (nI (i2 + 1))), (3, .int (nI i14)), (2, .int (if mk_oit σ (mk_harmR σ n nw i2) n i2 = (-1) then mk_oit σ (mk_harmR σ n nw i2) n i2 else nI ((mk_oit σ (mk_harmR σ n nw i2) n i2).toNatClampNeg))), (0, .ref (ad 0))]) hx hb dX3_harms_145 hl (k := 2) rfl (xk_inc i2) (by decide) rfl (fun ls hl => ?_)
              refine lv_goto (tgt := 2) hx hb dX3_harms_148 (by decide) ?_
              exact ih2 (i2 + 1) (by omega) (by omega)  _ _ _ (if mk_oit σ (mk_harmR σ n nw i2) n i2 = (-1) then mk_harmR σ n nw i2 else (if mk_clm σ n (σ 2 ((mk_oit σ (mk_harmR σ n nw i2) n i2).toNatClampNeg)) = 0 then upd (mk_harmR σ n nw i2) (144 + (mk_oit σ (mk_harmR σ n nw i2) n i2).toNatClampNeg) (((mk_harmR σ n nw i2) (144 + (mk_oit σ (mk_harmR σ n nw i2) n i2).toNatClampNeg)) + ((mk_harmR σ n nw i2) (40 + i2))) else mk_harmR σ n nw i2)) (rfl) hP hS (lv_sub hl [0, 3] rfl)
            refine lv_icmp_eq (tgt := 145) hx hb dX3_harms_107 (by decide) (fun c_4 => ?_) (fun c_4 => ?_)
            · skip
              exact J145_5 _ _ _ (mk_oit σ (mk_harmR σ n nw i2) n i2) (mk_harmR σ n nw i2) ((if_pos c_4).symm) ((if_pos c_4).symm) hP hS (lv_sub hl [0, 1, 2, 3] rfl)
            have hix := mk_ix_of (by omega) (mk_oit_ix σ (mk_harmR σ n nw i2) n i2) c_4
            have hix2 := hix.2.1
            have hl : lv_has ls 5 [(3, .int (nI i14)), (2, .int (nI ((mk_oit σ (mk_harmR σ n nw i2) n i2).toNatClampNeg))), (1, .int (nI i2)), (0, .ref (ad 0))] := by rw [← hix.1]; exact hl
            refine lv_aload_n hx hb dX3_harms_110 rfl (lv_at hl 3 rfl) ?_
            refine lv_aload_n hx hb dX3_harms_111 rfl (lv_at hl 3 rfl) ?_
            refine mk_get hAt hK hP 3 (by decide) (v := .ref (ad 3)) rfl (hts _ q793) rfl dX3_harms_112 ?_
            refine lv_iload_n hx hb dX3_harms_115 rfl (lv_at hl 1 rfl) ?_
            refine mk_iald hAt hK hP 3 (f := σ 2) rfl ((mk_oit σ (mk_harmR σ n nw i2) n i2).toNatClampNeg) (by omega) (by decide) dX3_harms_116 ?_
            refine mk_ciV hAt hK hP hA hS (As := [.int (σ 2 ((mk_oit σ (mk_harmR σ n nw i2) n i2).toNatClampNeg))]) (rest := []) (m_isCalmed l D A ad σ (mk_harmR σ n nw i2) az ir n th hJ (by assumption) (σ 2 ((mk_oit σ (mk_harmR σ n nw i2) n i2).toNatClampNeg))) (cwV 1 hts (lw_V q1000 q1002 qs31 q42 q1003) rfl rfl rfl cdX3_isCalmed ⟨Nat.le_of_ble_eq_true rfl, Nat.le_of_ble_eq_true rfl⟩) rfl hl.1 rfl (Nat.le_of_ble_eq_true rfl) dX3_harms_117 ⟨Nat.le_refl _, Nat.le_refl _⟩ (fun r H locs hq hS => ?_)
            obtain ⟨rfl, hP⟩ := hq
            refine lv_if_ne (tgt := 145) hx hb dX3_harms_120 (by decide) (fun c_6 => ?_) (fun c_6 => ?_)
            · skip
              exact J145_5 _ _ _ (nI ((mk_oit σ (mk_harmR σ n nw i2) n i2).toNatClampNeg)) (mk_harmR σ n nw i2) ((if_neg c_4).symm) (((if_neg c_6).symm).trans (if_neg c_4).symm) hP hS (lv_sub hl [0, 1, 2, 3] rfl)
            refine lv_aload_n hx hb dX3_harms_123 rfl (lv_at hl 3 rfl) ?_
            refine mk_get hAt hK hP 16 (by decide) (v := .ref (ad 12)) rfl (hts _ q806) rfl dX3_harms_124 ?_
            refine lv_sipush (v := 144) hx hb dX3_harms_127 (by decide) ?_
            refine lv_iload_n hx hb dX3_harms_130 rfl (lv_at hl 1 rfl) ?_
            refine lv_iadd hx hb dX3_harms_131 ?_
            refine xk_to (y := nI (144 + (mk_oit σ (mk_harmR σ n nw i2) n i2).toNatClampNeg)) (nI_add 144 ((mk_oit σ (mk_harmR σ n nw i2) n i2).toNatClampNeg)) ?_
            refine lv_dup2_11 hx hb dX3_harms_132 rfl rfl ?_
            refine mk_iald hAt hK hP 12 (f := mk_harmR σ n nw i2) rfl (144 + (mk_oit σ (mk_harmR σ n nw i2) n i2).toNatClampNeg) (by omega) (by decide) dX3_harms_133 ?_
            refine lv_aload_n hx hb dX3_harms_134 rfl (lv_at hl 3 rfl) ?_
            refine mk_get hAt hK hP 16 (by decide) (v := .ref (ad 12)) rfl (hts _ q806) rfl dX3_harms_135 ?_
            refine lv_bipush (v := 40) hx hb dX3_harms_138 (by decide) ?_
            refine lv_iload_n hx hb dX3_harms_140 rfl (lv_at hl 2 rfl) ?_
            refine lv_iadd hx hb dX3_harms_141 ?_
            refine xk_to (y := nI (40 + i2)) (nI_add 40 i2) ?_
            refine mk_iald hAt hK hP 12 (f := mk_harmR σ n nw i2) rfl (40 + i2) (by omega) (by decide) dX3_harms_142 ?_
            refine lv_iadd hx hb dX3_harms_143 ?_
            refine mk_iast hAt hK hJ hP hS 12 (f := mk_harmR σ n nw i2) rfl (144 + (mk_oit σ (mk_harmR σ n nw i2) n i2).toNatClampNeg) (by omega) (by decide) (σ' := σ) (nw' := upd (mk_harmR σ n nw i2) (144 + (mk_oit σ (mk_harmR σ n nw i2) n i2).toNatClampNeg) (((mk_harmR σ n nw i2) (144 + (mk_oit σ (mk_harmR σ n nw i2) n i2).toNatClampNeg)) + ((mk_harmR σ n nw i2) (40 + i2)))) (az' := az) rfl dX3_harms_144 (fun H locs hP hS => ?_)
            exact J145_5 _ _ _ (nI ((mk_oit σ (mk_harmR σ n nw i2) n i2).toNatClampNeg)) (upd (mk_harmR σ n nw i2) (144 + (mk_oit σ (mk_harmR σ n nw i2) n i2).toNatClampNeg) (((mk_harmR σ n nw i2) (144 + (mk_oit σ (mk_harmR σ n nw i2) n i2).toNatClampNeg)) + ((mk_harmR σ n nw i2) (40 + i2)))) ((if_neg c_4).symm) (((if_pos c_6).symm).trans (if_neg c_4).symm) hP hS (lv_sub hl [0, 1, 2, 3] rfl)
          refine mk_ge (tgt := 105) (a := i14) (b := n 0) hx hb (by omega) (by omega) dX3_harms_19 (by decide) (fun c_2 => ?_) (fun c_2 => ?_)
          · skip
            exact J105_3 _ _ _ (mk_otR σ (σ 6 i2) i14) (mk_oit_of1 c_2 h14b hi14_0) hP hS (lv_sub hl [0, 1, 2, 3] rfl)
          refine lv_aload_n hx hb dX3_harms_22 rfl (lv_at hl 3 rfl) ?_
          refine lv_iload_n hx hb dX3_harms_23 rfl (lv_at hl 2 rfl) ?_
          refine mk_ciV hAt hK hP hA hS (As := [.int (nI i2)]) (rest := []) (m_strikes l D A ad σ (mk_harmR σ n nw i2) az ir n th hJ i2 (by omega)) (cwV 1 hts (lw_V q992 q994 qs29 q42 q995) rfl rfl rfl cdX3_strikes ⟨Nat.le_of_ble_eq_true rfl, Nat.le_of_ble_eq_true rfl⟩) rfl hl.1 rfl (Nat.le_of_ble_eq_true rfl) dX3_harms_24 ⟨Nat.le_refl _, Nat.le_refl _⟩ (fun r H locs hq hS => ?_)
          obtain ⟨rfl, hP⟩ := hq
          refine xk_ifeq (tgt := 105) hx hb dX3_harms_27 (by decide) (fun c_7 => ?_) (fun c_7 => ?_)
          · skip
            exact J105_3 _ _ _ (mk_otR σ (σ 6 i2) i14) (mk_oit_of2 c_7 hi14_0) hP hS (lv_sub hl [0, 1, 2, 3] rfl)
          refine lv_aload_n hx hb dX3_harms_30 rfl (lv_at hl 3 rfl) ?_
          refine lv_aload_n hx hb dX3_harms_31 rfl (lv_at hl 3 rfl) ?_
          refine mk_get hAt hK hP 10 (by decide) (v := .ref (ad 7)) rfl (hts _ q800) rfl dX3_harms_32 ?_
          refine lv_iload_n hx hb dX3_harms_35 rfl (lv_at hl 2 rfl) ?_
          refine mk_iald hAt hK hP 7 (f := σ 6) rfl i2 (by omega) (by decide) dX3_harms_36 ?_
          refine lv_aload_n hx hb dX3_harms_37 rfl (lv_at hl 3 rfl) ?_
          refine mk_get hAt hK hP 3 (by decide) (v := .ref (ad 3)) rfl (hts _ q793) rfl dX3_harms_38 ?_
          refine lv_iload_n hx hb dX3_harms_41 rfl (lv_at hl 0 rfl) ?_
          refine mk_iald hAt hK hP 3 (f := σ 2) rfl i14 (by omega) (by decide) dX3_harms_42 ?_
          refine mk_ciV hAt hK hP hA hS (As := [.int (σ 6 i2), .int (σ 2 i14)]) (rest := []) (m_touches l D A ad σ (mk_harmR σ n nw i2) az ir n th hJ (σ 6 i2) (σ 2 i14)) (cwV 2 hts (lw_V q944 q946 qs18 q42 q947) rfl rfl rfl cdX3_touches ⟨Nat.le_of_ble_eq_true rfl, Nat.le_of_ble_eq_true rfl⟩) rfl hl.1 rfl (Nat.le_of_ble_eq_true rfl) dX3_harms_43 ⟨Nat.le_refl _, Nat.le_refl _⟩ (fun r H locs hq hS => ?_)
          obtain ⟨rfl, hP⟩ := hq
          refine lv_istore (lv' := [(4, .int (xk_b (mk_tch σ (σ 6 i2) (σ 2 i14)))), (3, .int (nI i14)), (2, .int (mk_otR σ (σ 6 i2) i14)), (1, .int (nI i2)), (0, .ref (ad 0))]) hx hb dX3_harms_46 hl (by decide) rfl (fun ls hl => ?_)
          refine lv_iload hx hb dX3_harms_48 (lv_at hl 0 rfl) ?_
          have J98_9 : ∀ (H : Heap) (locs : List Loc) (ls : Array Slot) (t0 : Int32), t0 = (if mk_tch σ (σ 6 i2) (σ 2 i14) then (if mk_otR σ (σ 6 i2) i14 = (-1) then nI i14 else (if mk_fit (σ 0) (σ 6 i2) (σ 2 i14) ≤ mk_fit (σ 0) (σ 6 i2) (σ 2 (mk_otR σ (σ 6 i2) i14).toNatClampNeg) then mk_otR σ (σ 6 i2) i14 else nI i14)) else mk_otR σ (σ 6 i2) i14) → mP D ad σ (mk_harmR σ n nw i2) az ir n th H → va_S A s.heap H locs → lv_has ls 5 [(4, .int (xk_b (mk_tch σ (σ 6 i2) (σ 2 i14)))), (3, .int (nI i14)), (2, .int (mk_otR σ (σ 6 i2) i14)), (1, .int (nI i2)), (0, .ref (ad 0))] → W p l e (xk_R 4 90) s m args below meth c H locs 0 0 Q (F0 m 98 ls [.int t0]) := by
            intro H locs ls t0 et0 hP hS hl
            subst et0
            refine lv_istore_n (lv' := [(2, .int (if mk_tch σ (σ 6 i2) (σ 2 i14) then (if mk_otR σ (σ 6 i2) i14 = (-1) then nI i14 else (if mk_fit (σ 0) (σ 6 i2) (σ 2 i14) ≤ mk_fit (σ 0) (σ 6 i2) (σ 2 (mk_otR σ (σ 6 i2) i14).toNatClampNeg) then mk_otR σ (σ 6 i2) i14 else nI i14)) else mk_otR σ (σ 6 i2) i14)), (4, .int (xk_b (mk_tch σ (σ 6 i2) (σ 2 i14)))), (3, .int (nI i14)), (1, .int (nI i2)), (0, .ref (ad 0))]) hx hb dX3_harms_98 rfl hl (by decide) rfl (fun ls hl => ?_)
            refine lv_iinc (v := nI (i14 + 1)) (lv' := [(3, .int (nI (i14 + 1))), (2, .int (if mk_tch σ (σ 6 i2) (σ 2 i14) then (if mk_otR σ (σ 6 i2) i14 = (-1) then nI i14 else (if mk_fit (σ 0) (σ 6 i2) (σ 2 i14) ≤ mk_fit (σ 0) (σ 6 i2) (σ 2 (mk_otR σ (σ 6 i2) i14).toNatClampNeg) then mk_otR σ (σ 6 i2) i14 else nI i14)) else mk_otR σ (σ 6 i2) i14)), (4, .int (xk_b (mk_tch σ (σ 6 i2) (σ 2 i14)))), (1, .int (nI i2)), (0, .ref (ad 0))]) hx hb dX3_harms_99 hl (k := 2) rfl (xk_inc i14) (by decide) rfl (fun ls hl => ?_)
            refine lv_goto (tgt := 14) hx hb dX3_harms_102 (by decide) ?_
            exact ih14 (i14 + 1) (by omega) (by omega) (Or.inr c_7) _ _ _ (if mk_tch σ (σ 6 i2) (σ 2 i14) then (if mk_otR σ (σ 6 i2) i14 = (-1) then nI i14 else (if mk_fit (σ 0) (σ 6 i2) (σ 2 i14) ≤ mk_fit (σ 0) (σ 6 i2) (σ 2 (mk_otR σ (σ 6 i2) i14).toNatClampNeg) then mk_otR σ (σ 6 i2) i14 else nI i14)) else mk_otR σ (σ 6 i2) i14) (rfl) hP hS (lv_sub hl [0, 1, 3, 4] rfl)
          refine xk_ifeq (tgt := 97) hx hb dX3_harms_50 (by decide) (fun c_8 => ?_) (fun c_8 => ?_)
          · skip
            refine lv_iload_n hx hb dX3_harms_97 rfl (lv_at hl 2 rfl) ?_
            exact J98_9 _ _ _ (mk_otR σ (σ 6 i2) i14) ((if_neg c_8).symm) hP hS (lv_sub hl [0, 1, 2, 3, 4] rfl)
          refine lv_iload_n hx hb dX3_harms_53 rfl (lv_at hl 2 rfl) ?_
          refine lv_iconst (v := (-1)) hx hb dX3_harms_54 (by decide) ?_
          refine lv_icmp_eq (tgt := 93) hx hb dX3_harms_55 (by decide) (fun c_10 => ?_) (fun c_10 => ?_)
          · skip
            refine lv_iload_n hx hb dX3_harms_93 rfl (lv_at hl 1 rfl) ?_
            refine lv_goto (tgt := 98) hx hb dX3_harms_94 (by decide) ?_
            exact J98_9 _ _ _ (nI i14) (((if_pos c_10).symm).trans (if_pos c_8).symm) hP hS (lv_sub hl [0, 1, 2, 3, 4] rfl)
          have hix := mk_ix_of (by omega) (mk_otR_ix σ (σ 6 i2) i14) c_10
          refine lv_aload_n hx hb dX3_harms_58 rfl (lv_at hl 4 rfl) ?_
          refine lv_aload_n hx hb dX3_harms_59 rfl (lv_at hl 4 rfl) ?_
          refine mk_get hAt hK hP 10 (by decide) (v := .ref (ad 7)) rfl (hts _ q800) rfl dX3_harms_60 ?_
          refine lv_iload_n hx hb dX3_harms_63 rfl (lv_at hl 3 rfl) ?_
          refine mk_iald hAt hK hP 7 (f := σ 6) rfl i2 (by omega) (by decide) dX3_harms_64 ?_
          refine lv_aload_n hx hb dX3_harms_65 rfl (lv_at hl 4 rfl) ?_
          refine mk_get hAt hK hP 3 (by decide) (v := .ref (ad 3)) rfl (hts _ q793) rfl dX3_harms_66 ?_
          refine lv_iload_n hx hb dX3_harms_69 rfl (lv_at hl 1 rfl) ?_
          refine mk_iald hAt hK hP 3 (f := σ 2) rfl i14 (by omega) (by decide) dX3_harms_70 ?_
          refine mk_ciV hAt hK hP hA hS (As := [.int (σ 6 i2), .int (σ 2 i14)]) (rest := []) (m_fitOf l D A ad σ (mk_harmR σ n nw i2) az ir n th hJ (σ 6 i2) (σ 2 i14)) (cwV 2 hts (lw_V q873 q875 qs14 q42 q876) rfl rfl rfl cdX3_fitOf ⟨Nat.le_of_ble_eq_true rfl, Nat.le_of_ble_eq_true rfl⟩) rfl hl.1 rfl (Nat.le_of_ble_eq_true rfl) dX3_harms_71 ⟨Nat.le_refl _, Nat.le_refl _⟩ (fun r H locs hq hS => ?_)
          obtain ⟨rfl, hP⟩ := hq
          refine lv_aload_n hx hb dX3_harms_74 rfl (lv_at hl 4 rfl) ?_
          refine lv_aload_n hx hb dX3_harms_75 rfl (lv_at hl 4 rfl) ?_
          refine mk_get hAt hK hP 10 (by decide) (v := .ref (ad 7)) rfl (hts _ q800) rfl dX3_harms_76 ?_
          refine lv_iload_n hx hb dX3_harms_79 rfl (lv_at hl 3 rfl) ?_
          refine mk_iald hAt hK hP 7 (f := σ 6) rfl i2 (by omega) (by decide) dX3_harms_80 ?_
          refine lv_aload_n hx hb dX3_harms_81 rfl (lv_at hl 4 rfl) ?_
          refine mk_get hAt hK hP 3 (by decide) (v := .ref (ad 3)) rfl (hts _ q793) rfl dX3_harms_82 ?_
          refine lv_iload_n hx hb dX3_harms_85 rfl (lv_at hl 2 rfl) ?_
          refine mk_ialdx hAt hK hP 3 (f := σ 2) rfl (vp_in_mono hix.2.2 (by omega)) dX3_harms_86 ?_
          refine mk_ciV hAt hK hP hA hS (As := [.int (σ 6 i2), .int (σ 2 (mk_otR σ (σ 6 i2) i14).toNatClampNeg)]) (rest := [.int (mk_fit (σ 0) (σ 6 i2) (σ 2 i14))]) (m_fitOf l D A ad σ (mk_harmR σ n nw i2) az ir n th hJ (σ 6 i2) (σ 2 (mk_otR σ (σ 6 i2) i14).toNatClampNeg)) (cwV 2 hts (lw_V q873 q875 qs14 q42 q876) rfl rfl rfl cdX3_fitOf ⟨Nat.le_of_ble_eq_true rfl, Nat.le_of_ble_eq_true rfl⟩) rfl hl.1 rfl (Nat.le_of_ble_eq_true rfl) dX3_harms_87 ⟨Nat.le_refl _, Nat.le_refl _⟩ (fun r H locs hq hS => ?_)
          obtain ⟨rfl, hP⟩ := hq
          refine lv_icmp_le (tgt := 97) hx hb dX3_harms_90 (by decide) (fun c_11 => ?_) (fun c_11 => ?_)
          · skip
            refine lv_iload_n hx hb dX3_harms_97 rfl (lv_at hl 2 rfl) ?_
            exact J98_9 _ _ _ (mk_otR σ (σ 6 i2) i14) ((((if_pos c_11).symm).trans (if_neg c_10).symm).trans (if_pos c_8).symm) hP hS (lv_sub hl [0, 1, 2, 3, 4] rfl)
          refine lv_iload_n hx hb dX3_harms_93 rfl (lv_at hl 1 rfl) ?_
          refine lv_goto (tgt := 98) hx hb dX3_harms_94 (by decide) ?_
          exact J98_9 _ _ _ (nI i14) ((((if_neg c_11).symm).trans (if_neg c_10).symm).trans (if_pos c_8).symm) hP hS (lv_sub hl [0, 1, 2, 3, 4] rfl)
      exact L14 (n 0 + 1) 0 (by omega) (by omega) (Or.inl rfl) _ _ _ (-1) (rfl) hP hS (lv_sub hl [0, 1, 2, 3] rfl)
  exact L2 (n 3 + 1) 0 (by omega) (by omega)  _ _ _ nw (rfl) hP hS (lv_sub hl [0, 1] rfl)
set_option maxHeartbeats 4000000 in
theorem m_hour (l : Launch) (D : xk_G) (A : Nat → Prop) (ad : Nat → Nat) (σ : Nat → Nat → Int32) (nw az ir : Nat → Int32) (n : Nat → Nat) (th : Int32) (hJ : mk_ok A ad) (h0 : n 0 ≤ 8) (h3 : n 3 ≤ 40) (h4 : n 4 ≤ 8) : Met l yX3_hour (ws_ yX3_hour cX3_hour 3 (none)) (xk_R 6 139) (xk_Pre D A (mP D ad σ nw az ir n th) [.ref (ad 0)]) (xk_Pv A (fun H => mP D ad σ (mk_hour σ n nw) az ir n th H)) 0 0 A := by
  refine xk_startV (by decide +kernel) (Nat.le_of_ble_eq_true rfl) ?_
  intro p e s m args below meth c Q hAt hin hK hA hP hR ls hl
  obtain ⟨hx, hb, hml, hown, hts⟩ := id hAt
  have hl : lv_has ls 3 [(0, .ref (ad 0))] := hl
  have hS : va_S A s.heap s.heap [] := va_S.rf
  refine lv_aload_n hx hb dX3_hour_0 rfl (lv_at hl 0 rfl) ?_
  refine mk_cvV hAt hK hP hA hS (As := []) (rest := []) (m_grow l D A ad σ nw az ir n th hJ (by assumption)) (cwV 0 hts (lw_V q956 q958 qs20 q42 q959) rfl rfl rfl cdX3_grow ⟨Nat.le_of_ble_eq_true rfl, Nat.le_of_ble_eq_true rfl⟩) rfl hl.1 rfl (Nat.le_of_ble_eq_true rfl) dX3_hour_1 ⟨Nat.le_refl _, Nat.le_refl _⟩ (fun H locs hP hS => ?_)
  have hP : mP D ad σ (mk_h1 σ n nw) az ir n th H := hP
  refine lv_aload_n hx hb dX3_hour_4 rfl (lv_at hl 0 rfl) ?_
  refine mk_cvV hAt hK hP hA hS (As := []) (rest := []) (m_wake l D A ad σ (mk_h1 σ n nw) az ir n th hJ (by assumption) (by assumption)) (cwV 0 hts (lw_V q960 q962 qs21 q42 q963) rfl rfl rfl cdX3_wake ⟨Nat.le_of_ble_eq_true rfl, Nat.le_of_ble_eq_true rfl⟩) rfl hl.1 rfl (Nat.le_of_ble_eq_true rfl) dX3_hour_5 ⟨Nat.le_refl _, Nat.le_refl _⟩ (fun H locs hP hS => ?_)
  have hP : mP D ad σ (mk_h2 σ n nw) az ir n th H := hP
  refine lv_aload_n hx hb dX3_hour_8 rfl (lv_at hl 0 rfl) ?_
  refine mk_cvV hAt hK hP hA hS (As := []) (rest := []) (m_work l D A ad σ (mk_h2 σ n nw) az ir n th hJ (by assumption) (by assumption)) (cwV 0 hts (lw_V q976 q978 qs25 q42 q979) rfl rfl rfl cdX3_work ⟨Nat.le_of_ble_eq_true rfl, Nat.le_of_ble_eq_true rfl⟩) rfl hl.1 rfl (Nat.le_of_ble_eq_true rfl) dX3_hour_9 ⟨Nat.le_refl _, Nat.le_refl _⟩ (fun H locs hP hS => ?_)
  have hP : mP D ad σ (mk_h3 σ n nw) az ir n th H := hP
  refine lv_aload_n hx hb dX3_hour_12 rfl (lv_at hl 0 rfl) ?_
  refine mk_cvV hAt hK hP hA hS (As := []) (rest := []) (m_strike l D A ad σ (mk_h3 σ n nw) az ir n th hJ (by assumption) (by assumption)) (cwV 0 hts (lw_V q988 q990 qs28 q42 q991) rfl rfl rfl cdX3_strike ⟨Nat.le_of_ble_eq_true rfl, Nat.le_of_ble_eq_true rfl⟩) rfl hl.1 rfl (Nat.le_of_ble_eq_true rfl) dX3_hour_13 ⟨Nat.le_refl _, Nat.le_refl _⟩ (fun H locs hP hS => ?_)
  have hP : mP D ad σ (mk_h4 σ n nw) az ir n th H := hP
  refine lv_aload_n hx hb dX3_hour_16 rfl (lv_at hl 0 rfl) ?_
  refine mk_cvV hAt hK hP hA hS (As := []) (rest := []) (m_harms l D A ad σ (mk_h4 σ n nw) az ir n th hJ (by assumption) (by assumption)) (cwV 0 hts (lw_V q996 q998 qs30 q42 q999) rfl rfl rfl cdX3_harms ⟨Nat.le_of_ble_eq_true rfl, Nat.le_of_ble_eq_true rfl⟩) rfl hl.1 rfl (Nat.le_of_ble_eq_true rfl) dX3_hour_17 ⟨Nat.le_refl _, Nat.le_refl _⟩ (fun H locs hP hS => ?_)
  have hP : mP D ad σ (mk_h5 σ n nw) az ir n th H := hP
  refine lv_iconst (v := 0) hx hb dX3_hour_20 (by decide) ?_
  refine lv_istore_n (lv' := [(1, .int 0), (0, .ref (ad 0))]) hx hb dX3_hour_21 rfl hl (by decide) rfl (fun ls hl => ?_)
  have L22 : ∀ (j i22 : Nat), n 3 + 1 ≤ i22 + j → i22 ≤ n 3 → ∀ (H : Heap) (locs : List Loc) (ls : Array Slot) (znw : Nat → Int32), znw = mk_tirR σ n (mk_h5 σ n nw) i22 → mP D ad σ znw az ir n th H → va_S A s.heap H locs → lv_has ls 3 [(1, .int (nI i22)), (0, .ref (ad 0))] → W p l e (xk_R 6 139) s m args below meth c H locs 0 0 Q (F0 m 22 ls []) := by
    intro j
    induction j with
    | zero => intro i22 h22a h22b; exact absurd h22a (by omega)
    | succ j ih22 =>
      intro i22 h22a h22b  H locs ls znw eznw hP hS hl
      subst eznw
      refine lv_iload_n hx hb dX3_hour_22 rfl (lv_at hl 0 rfl) ?_
      refine lv_aload_n hx hb dX3_hour_23 rfl (lv_at hl 1 rfl) ?_
      refine mk_get hAt hK hP 9 (by decide) (v := .int (nI (n 3))) rfl (hts _ q799) rfl dX3_hour_24 ?_
      refine mk_ge (tgt := 61) (a := i22) (b := n 3) hx hb (by omega) (by omega) dX3_hour_27 (by decide) (fun c_1 => ?_) (fun c_1 => ?_)
      · skip
        obtain rfl : i22 = n 3 := by omega
        have hP : mP D ad σ (mk_h6 σ n nw) az ir n th H := hP
        refine lv_iconst (v := 0) hx hb dX3_hour_61 (by decide) ?_
        refine lv_istore_n (lv' := [(1, .int 0), (0, .ref (ad 0))]) hx hb dX3_hour_62 rfl hl (by decide) rfl (fun ls hl => ?_)
        have L63 : ∀ (j i63 : Nat), n 4 + 1 ≤ i63 + j → i63 ≤ n 4 → ∀ (H : Heap) (locs : List Loc) (ls : Array Slot) (znw : Nat → Int32), znw = mk_grtR (mk_h6 σ n nw) i63 → mP D ad σ znw az ir n th H → va_S A s.heap H locs → lv_has ls 3 [(1, .int (nI i63)), (0, .ref (ad 0))] → W p l e (xk_R 6 139) s m args below meth c H locs 0 0 Q (F0 m 63 ls []) := by
          intro j
          induction j with
          | zero => intro i63 h63a h63b; exact absurd h63a (by omega)
          | succ j ih63 =>
            intro i63 h63a h63b  H locs ls znw eznw hP hS hl
            subst eznw
            refine lv_iload_n hx hb dX3_hour_63 rfl (lv_at hl 0 rfl) ?_
            refine lv_aload_n hx hb dX3_hour_64 rfl (lv_at hl 1 rfl) ?_
            refine mk_get hAt hK hP 13 (by decide) (v := .int (nI (n 4))) rfl (hts _ q803) rfl dX3_hour_65 ?_
            refine mk_ge (tgt := 125) (a := i63) (b := n 4) hx hb (by omega) (by omega) dX3_hour_68 (by decide) (fun c_2 => ?_) (fun c_2 => ?_)
            · skip
              obtain rfl : i63 = n 4 := by omega
              have hP : mP D ad σ (mk_h7 σ n nw) az ir n th H := hP
              refine lv_aload_n hx hb dX3_hour_125 rfl (lv_at hl 1 rfl) ?_
              refine mk_get hAt hK hP 16 (by decide) (v := .ref (ad 12)) rfl (hts _ q806) rfl dX3_hour_126 ?_
              refine lv_sipush (v := 154) hx hb dX3_hour_129 (by decide) ?_
              refine lv_dup2_11 hx hb dX3_hour_132 rfl rfl ?_
              refine mk_iald hAt hK hP 12 (f := mk_h7 σ n nw) rfl 154 (by omega) (by decide) dX3_hour_133 ?_
              refine lv_iconst (v := 1) hx hb dX3_hour_134 (by decide) ?_
              refine lv_iadd hx hb dX3_hour_135 ?_
              refine mk_iast hAt hK hJ hP hS 12 (f := mk_h7 σ n nw) rfl 154 (by omega) (by decide) (σ' := σ) (nw' := upd (mk_h7 σ n nw) 154 (((mk_h7 σ n nw) 154) + 1)) (az' := az) rfl dX3_hour_136 (fun H locs hP hS => ?_)
              exact hR _ _ _ _ dX3_hour_137 (hP) hS
            refine lv_aload_n hx hb dX3_hour_71 rfl (lv_at hl 1 rfl) ?_
            refine mk_get hAt hK hP 16 (by decide) (v := .ref (ad 12)) rfl (hts _ q806) rfl dX3_hour_72 ?_
            refine lv_bipush (v := 120) hx hb dX3_hour_75 (by decide) ?_
            refine lv_iload_n hx hb dX3_hour_77 rfl (lv_at hl 0 rfl) ?_
            refine lv_iadd hx hb dX3_hour_78 ?_
            refine xk_to (y := nI (120 + i63)) (nI_add 120 i63) ?_
            refine mk_iald hAt hK hP 12 (f := mk_grtR (mk_h6 σ n nw) i63) rfl (120 + i63) (by omega) (by decide) dX3_hour_79 ?_
            refine lv_istore_n (lv' := [(2, .int ((mk_grtR (mk_h6 σ n nw) i63) (120 + i63))), (1, .int (nI i63)), (0, .ref (ad 0))]) hx hb dX3_hour_80 rfl hl (by decide) rfl (fun ls hl => ?_)
            refine lv_aload_n hx hb dX3_hour_81 rfl (lv_at hl 2 rfl) ?_
            refine mk_get hAt hK hP 16 (by decide) (v := .ref (ad 12)) rfl (hts _ q806) rfl dX3_hour_82 ?_
            refine lv_sipush (v := 136) hx hb dX3_hour_85 (by decide) ?_
            refine lv_iload_n hx hb dX3_hour_88 rfl (lv_at hl 1 rfl) ?_
            refine lv_iadd hx hb dX3_hour_89 ?_
            refine xk_to (y := nI (136 + i63)) (nI_add 136 i63) ?_
            refine lv_iload_n hx hb dX3_hour_90 rfl (lv_at hl 0 rfl) ?_
            refine lv_aload_n hx hb dX3_hour_91 rfl (lv_at hl 2 rfl) ?_
            refine mk_get hAt hK hP 16 (by decide) (v := .ref (ad 12)) rfl (hts _ q806) rfl dX3_hour_92 ?_
            refine lv_sipush (v := 136) hx hb dX3_hour_95 (by decide) ?_
            refine lv_iload_n hx hb dX3_hour_98 rfl (lv_at hl 1 rfl) ?_
            refine lv_iadd hx hb dX3_hour_99 ?_
            refine xk_to (y := nI (136 + i63)) (nI_add 136 i63) ?_
            refine mk_iald hAt hK hP 12 (f := mk_grtR (mk_h6 σ n nw) i63) rfl (136 + i63) (by omega) (by decide) dX3_hour_100 ?_
            have J118_4 : ∀ (H : Heap) (locs : List Loc) (ls : Array Slot) (t0 : Int32), t0 = (if (mk_grtR (mk_h6 σ n nw) i63) (120 + i63) ≤ (mk_grtR (mk_h6 σ n nw) i63) (136 + i63) then (mk_grtR (mk_h6 σ n nw) i63) (136 + i63) else (mk_grtR (mk_h6 σ n nw) i63) (120 + i63)) → mP D ad σ (mk_grtR (mk_h6 σ n nw) i63) az ir n th H → va_S A s.heap H locs → lv_has ls 3 [(2, .int ((mk_grtR (mk_h6 σ n nw) i63) (120 + i63))), (1, .int (nI i63)), (0, .ref (ad 0))] → W p l e (xk_R 6 139) s m args below meth c H locs 0 0 Q (F0 m 118 ls [.int t0, .int (nI (136 + i63)), .ref (ad 12)]) := by
              intro H locs ls t0 et0 hP hS hl
              subst et0
              refine mk_iast hAt hK hJ hP hS 12 (f := mk_grtR (mk_h6 σ n nw) i63) rfl (136 + i63) (by omega) (by decide) (σ' := σ) (nw' := upd (mk_grtR (mk_h6 σ n nw) i63) (136 + i63) (if (mk_grtR (mk_h6 σ n nw) i63) (120 + i63) ≤ (mk_grtR (mk_h6 σ n nw) i63) (136 + i63) then (mk_grtR (mk_h6 σ n nw) i63) (136 + i63) else (mk_grtR (mk_h6 σ n nw) i63) (120 + i63))) (az' := az) rfl dX3_hour_118 (fun H locs hP hS => ?_)
              refine lv_iinc (v := nI (i63 + 1)) (lv' := [(1, .int (nI (i63 + 1))), (2, .int ((mk_grtR (mk_h6 σ n nw) i63) (120 + i63))), (0, .ref (ad 0))]) hx hb dX3_hour_119 hl (k := 1) rfl (xk_inc i63) (by decide) rfl (fun ls hl => ?_)
              refine lv_goto (tgt := 63) hx hb dX3_hour_122 (by decide) ?_
              exact ih63 (i63 + 1) (by omega) (by omega)  _ _ _ (upd (mk_grtR (mk_h6 σ n nw) i63) (136 + i63) (if (mk_grtR (mk_h6 σ n nw) i63) (120 + i63) ≤ (mk_grtR (mk_h6 σ n nw) i63) (136 + i63) then (mk_grtR (mk_h6 σ n nw) i63) (136 + i63) else (mk_grtR (mk_h6 σ n nw) i63) (120 + i63))) (rfl) hP hS (lv_sub hl [0, 2] rfl)
            refine lv_icmp_le (tgt := 108) hx hb dX3_hour_101 (by decide) (fun c_3 => ?_) (fun c_3 => ?_)
            · skip
              refine lv_aload_n hx hb dX3_hour_108 rfl (lv_at hl 2 rfl) ?_
              refine mk_get hAt hK hP 16 (by decide) (v := .ref (ad 12)) rfl (hts _ q806) rfl dX3_hour_109 ?_
              refine lv_sipush (v := 136) hx hb dX3_hour_112 (by decide) ?_
              refine lv_iload_n hx hb dX3_hour_115 rfl (lv_at hl 1 rfl) ?_
              refine lv_iadd hx hb dX3_hour_116 ?_
              refine xk_to (y := nI (136 + i63)) (nI_add 136 i63) ?_
              refine mk_iald hAt hK hP 12 (f := mk_grtR (mk_h6 σ n nw) i63) rfl (136 + i63) (by omega) (by decide) dX3_hour_117 ?_
              exact J118_4 _ _ _ ((mk_grtR (mk_h6 σ n nw) i63) (136 + i63)) ((if_pos c_3).symm) hP hS (lv_sub hl [0, 1, 2] rfl)
            refine lv_iload_n hx hb dX3_hour_104 rfl (lv_at hl 0 rfl) ?_
            refine lv_goto (tgt := 118) hx hb dX3_hour_105 (by decide) ?_
            exact J118_4 _ _ _ ((mk_grtR (mk_h6 σ n nw) i63) (120 + i63)) ((if_neg c_3).symm) hP hS (lv_sub hl [0, 1, 2] rfl)
        exact L63 (n 4 + 1) 0 (by omega) (by omega)  _ _ _ (mk_h6 σ n nw) (rfl) hP hS (lv_sub hl [0, 1] rfl)
      refine lv_aload_n hx hb dX3_hour_30 rfl (lv_at hl 1 rfl) ?_
      refine mk_get hAt hK hP 16 (by decide) (v := .ref (ad 12)) rfl (hts _ q806) rfl dX3_hour_31 ?_
      refine lv_iconst (v := 0) hx hb dX3_hour_34 (by decide) ?_
      refine lv_iload_n hx hb dX3_hour_35 rfl (lv_at hl 0 rfl) ?_
      refine lv_iadd hx hb dX3_hour_36 ?_
      refine xk_to (y := nI i22) (xk_0 i22) ?_
      refine mk_iald hAt hK hP 12 (f := mk_tirR σ n (mk_h5 σ n nw) i22) rfl i22 (by omega) (by decide) dX3_hour_37 ?_
      refine lv_iconst (v := 4) hx hb dX3_hour_38 (by decide) ?_
      have J55_6 : ∀ (H : Heap) (locs : List Loc) (ls : Array Slot) (znw : Nat → Int32), znw = (if (mk_tirR σ n (mk_h5 σ n nw) i22) i22 = 4 then (if mk_mts σ (mk_tirR σ n (mk_h5 σ n nw) i22) n (σ 6 i22) then mk_tirR σ n (mk_h5 σ n nw) i22 else mk_rem (mk_tirR σ n (mk_h5 σ n nw) i22) i22) else mk_tirR σ n (mk_h5 σ n nw) i22) → mP D ad σ znw az ir n th H → va_S A s.heap H locs → lv_has ls 3 [(1, .int (nI i22)), (0, .ref (ad 0))] → W p l e (xk_R 6 139) s m args below meth c H locs 0 0 Q (F0 m 55 ls []) := by
        intro H locs ls znw eznw hP hS hl
        subst eznw
        refine lv_iinc (v := nI (i22 + 1)) (lv' := [(1, .int (nI (i22 + 1))), (0, .ref (ad 0))]) hx hb dX3_hour_55 hl (k := 0) rfl (xk_inc i22) (by decide) rfl (fun ls hl => ?_)
        refine lv_goto (tgt := 22) hx hb dX3_hour_58 (by decide) ?_
        exact ih22 (i22 + 1) (by omega) (by omega)  _ _ _ (if (mk_tirR σ n (mk_h5 σ n nw) i22) i22 = 4 then (if mk_mts σ (mk_tirR σ n (mk_h5 σ n nw) i22) n (σ 6 i22) then mk_tirR σ n (mk_h5 σ n nw) i22 else mk_rem (mk_tirR σ n (mk_h5 σ n nw) i22) i22) else mk_tirR σ n (mk_h5 σ n nw) i22) (rfl) hP hS (lv_sub hl [0, 1] rfl)
      refine lv_icmp_ne (tgt := 55) hx hb dX3_hour_39 (by decide) (fun c_5 => ?_) (fun c_5 => ?_)
      · skip
        exact J55_6 _ _ _ (mk_tirR σ n (mk_h5 σ n nw) i22) ((if_neg c_5).symm) hP hS (lv_sub hl [0, 1] rfl)
      refine lv_aload_n hx hb dX3_hour_42 rfl (lv_at hl 1 rfl) ?_
      refine lv_iload_n hx hb dX3_hour_43 rfl (lv_at hl 0 rfl) ?_
      refine mk_ciV hAt hK hP hA hS (As := [.int (nI i22)]) (rest := []) (m_meets l D A ad σ (mk_tirR σ n (mk_h5 σ n nw) i22) az ir n th hJ (by assumption) i22 (by omega)) (cwV 1 hts (lw_V q968 q970 qs23 q42 q971) rfl rfl rfl cdX3_meets ⟨Nat.le_of_ble_eq_true rfl, Nat.le_of_ble_eq_true rfl⟩) rfl hl.1 rfl (Nat.le_of_ble_eq_true rfl) dX3_hour_44 ⟨Nat.le_refl _, Nat.le_refl _⟩ (fun r H locs hq hS => ?_)
      obtain ⟨rfl, hP⟩ := hq
      refine xk_ifne (tgt := 55) hx hb dX3_hour_47 (by decide) (fun c_7 => ?_) (fun c_7 => ?_)
      · skip
        exact J55_6 _ _ _ (mk_tirR σ n (mk_h5 σ n nw) i22) (((if_pos c_7).symm).trans (if_pos c_5).symm) hP hS (lv_sub hl [0, 1] rfl)
      refine lv_aload_n hx hb dX3_hour_50 rfl (lv_at hl 1 rfl) ?_
      refine lv_iload_n hx hb dX3_hour_51 rfl (lv_at hl 0 rfl) ?_
      refine mk_cvV hAt hK hP hA hS (As := [.int (nI i22)]) (rest := []) (m_remembers l D A ad σ (mk_tirR σ n (mk_h5 σ n nw) i22) az ir n th hJ i22 (by omega)) (cwV 1 hts (lw_V q980 q982 qs26 q42 q983) rfl rfl rfl cdX3_remembers ⟨Nat.le_of_ble_eq_true rfl, Nat.le_of_ble_eq_true rfl⟩) rfl hl.1 rfl (Nat.le_of_ble_eq_true rfl) dX3_hour_52 ⟨Nat.le_refl _, Nat.le_refl _⟩ (fun H locs hP hS => ?_)
      exact J55_6 _ _ _ (mk_rem (mk_tirR σ n (mk_h5 σ n nw) i22) i22) (((if_neg c_7).symm).trans (if_pos c_5).symm) hP hS (lv_sub hl [0, 1] rfl)
  exact L22 (n 3 + 1) 0 (by omega) (by omega)  _ _ _ (mk_h5 σ n nw) (rfl) hP hS (lv_sub hl [0, 1] rfl)
set_option maxHeartbeats 4000000 in
theorem m_sumOf (l : Launch) (D : xk_G) (A : Nat → Prop) (ad : Nat → Nat) (σ : Nat → Nat → Int32) (nw az ir : Nat → Int32) (n : Nat → Nat) (th : Int32) (hJ : mk_ok A ad) (h4 : n 4 ≤ 8) (x : Int32) : Met l yX3_sumOf (ws_ yX3_sumOf cX3_sumOf 4 (some .int)) (xk_R 1 22) (xk_Pre D A (mP D ad σ nw az ir n th) [.ref (ad 0), .int x]) (xk_Pi A (fun r H => r = mk_sumOf nw n x ∧ mP D ad σ nw az ir n th H)) 0 0 A := by
  refine xk_startI (by decide +kernel) (Nat.le_of_ble_eq_true rfl) ?_
  intro p e s m args below meth c Q hAt hin hK hA hP hR ls hl
  obtain ⟨hx, hb, hml, hown, hts⟩ := id hAt
  have hl : lv_has ls 4 [(0, .ref (ad 0)), (1, .int x)] := hl
  have hS : va_S A s.heap s.heap [] := va_S.rf
  refine lv_iconst (v := 0) hx hb dX3_sumOf_0 (by decide) ?_
  refine lv_istore_n (lv' := [(2, .int 0), (0, .ref (ad 0)), (1, .int x)]) hx hb dX3_sumOf_1 rfl hl (by decide) rfl (fun ls hl => ?_)
  refine lv_iconst (v := 0) hx hb dX3_sumOf_2 (by decide) ?_
  refine lv_istore_n (lv' := [(3, .int 0), (2, .int 0), (0, .ref (ad 0)), (1, .int x)]) hx hb dX3_sumOf_3 rfl hl (by decide) rfl (fun ls hl => ?_)
  have L4 : ∀ (j i4 : Nat), 40 + 1 ≤ i4 + j → i4 ≤ 40 → ∀ (H : Heap) (locs : List Loc) (ls : Array Slot) (v2 : Int32), v2 = mk_sumR nw x i4 → mP D ad σ nw az ir n th H → va_S A s.heap H locs → lv_has ls 4 [(3, .int (nI i4)), (2, .int v2), (0, .ref (ad 0)), (1, .int x)] → W p l e (xk_R 1 22) s m args below meth c H locs 0 0 Q (F0 m 4 ls []) := by
    intro j
    induction j with
    | zero => intro i4 h4a h4b; exact absurd h4a (by omega)
    | succ j ih4 =>
      intro i4 h4a h4b  H locs ls v2 ev2 hP hS hl
      subst ev2
      refine lv_iload_n hx hb dX3_sumOf_4 rfl (lv_at hl 0 rfl) ?_
      refine lv_bipush (v := 40) hx hb dX3_sumOf_5 (by decide) ?_
      refine mk_ge (tgt := 61) (a := i4) (b := 40) hx hb (by omega) (by omega) dX3_sumOf_7 (by decide) (fun c_1 => ?_) (fun c_1 => ?_)
      · skip
        obtain rfl : i4 = 40 := by omega
        refine lv_iload_n hx hb dX3_sumOf_61 rfl (lv_at hl 3 rfl) ?_
        have J121_3 : ∀ (H : Heap) (locs : List Loc) (ls : Array Slot) (t0 : Int32), t0 = (if x = 0 then nw 152 else (if x = 1 then nw 153 else (if x = 3 then mk_sumI nw (n 4) else (if x = 5 then nw 154 else mk_sumR nw x 40)))) → mP D ad σ nw az ir n th H → va_S A s.heap H locs → lv_has ls 4 [(3, .int (nI 40)), (2, .int (mk_sumR nw x 40)), (0, .ref (ad 0)), (1, .int x)] → W p l e (xk_R 1 22) s m args below meth c H locs 0 0 Q (F0 m 121 ls [.int t0]) := by
          intro H locs ls t0 et0 hP hS hl
          subst et0
          exact hR _ _ _ _ _ dX3_sumOf_121 (⟨rfl, hP⟩) hS
        refine lv_if_ne (tgt := 76) hx hb dX3_sumOf_62 (by decide) (fun c_2 => ?_) (fun c_2 => ?_)
        · skip
          refine lv_iload_n hx hb dX3_sumOf_76 rfl (lv_at hl 3 rfl) ?_
          refine lv_iconst (v := 1) hx hb dX3_sumOf_77 (by decide) ?_
          refine lv_icmp_ne (tgt := 92) hx hb dX3_sumOf_78 (by decide) (fun c_4 => ?_) (fun c_4 => ?_)
          · skip
            refine lv_iload_n hx hb dX3_sumOf_92 rfl (lv_at hl 3 rfl) ?_
            refine lv_iconst (v := 3) hx hb dX3_sumOf_93 (by decide) ?_
            refine lv_icmp_ne (tgt := 104) hx hb dX3_sumOf_94 (by decide) (fun c_5 => ?_) (fun c_5 => ?_)
            · skip
              refine lv_iload_n hx hb dX3_sumOf_104 rfl (lv_at hl 3 rfl) ?_
              refine lv_iconst (v := 5) hx hb dX3_sumOf_105 (by decide) ?_
              refine lv_icmp_ne (tgt := 120) hx hb dX3_sumOf_106 (by decide) (fun c_6 => ?_) (fun c_6 => ?_)
              · skip
                refine lv_iload_n hx hb dX3_sumOf_120 rfl (lv_at hl 1 rfl) ?_
                exact J121_3 _ _ _ (mk_sumR nw x 40) (((((if_neg c_6).symm).trans (if_neg c_5).symm).trans (if_neg c_4).symm).trans (if_neg c_2).symm) hP hS (lv_sub hl [0, 1, 2, 3] rfl)
              refine lv_aload_n hx hb dX3_sumOf_109 rfl (lv_at hl 2 rfl) ?_
              refine mk_get hAt hK hP 16 (by decide) (v := .ref (ad 12)) rfl (hts _ q806) rfl dX3_sumOf_110 ?_
              refine lv_sipush (v := 154) hx hb dX3_sumOf_113 (by decide) ?_
              refine mk_iald hAt hK hP 12 (f := nw) rfl 154 (by omega) (by decide) dX3_sumOf_116 ?_
              refine lv_goto (tgt := 121) hx hb dX3_sumOf_117 (by decide) ?_
              exact J121_3 _ _ _ (nw 154) (((((if_pos c_6).symm).trans (if_neg c_5).symm).trans (if_neg c_4).symm).trans (if_neg c_2).symm) hP hS (lv_sub hl [0, 1, 2, 3] rfl)
            refine lv_aload_n hx hb dX3_sumOf_97 rfl (lv_at hl 2 rfl) ?_
            refine mk_ciV hAt hK hP hA hS (As := []) (rest := []) (m_allInvaders l D A ad σ nw az ir n th hJ (by assumption)) (cwV 0 hts (lw_V q964 q966 qs22 q42 q967) rfl rfl rfl cdX3_allInvaders ⟨Nat.le_of_ble_eq_true rfl, Nat.le_of_ble_eq_true rfl⟩) rfl hl.1 rfl (Nat.le_of_ble_eq_true rfl) dX3_sumOf_98 ⟨Nat.le_refl _, Nat.le_refl _⟩ (fun r H locs hq hS => ?_)
            obtain ⟨rfl, hP⟩ := hq
            refine lv_goto (tgt := 121) hx hb dX3_sumOf_101 (by decide) ?_
            exact J121_3 _ _ _ (mk_sumI nw (n 4)) ((((if_pos c_5).symm).trans (if_neg c_4).symm).trans (if_neg c_2).symm) hP hS (lv_sub hl [0, 1, 2, 3] rfl)
          refine lv_aload_n hx hb dX3_sumOf_81 rfl (lv_at hl 2 rfl) ?_
          refine mk_get hAt hK hP 16 (by decide) (v := .ref (ad 12)) rfl (hts _ q806) rfl dX3_sumOf_82 ?_
          refine lv_sipush (v := 153) hx hb dX3_sumOf_85 (by decide) ?_
          refine mk_iald hAt hK hP 12 (f := nw) rfl 153 (by omega) (by decide) dX3_sumOf_88 ?_
          refine lv_goto (tgt := 121) hx hb dX3_sumOf_89 (by decide) ?_
          exact J121_3 _ _ _ (nw 153) (((if_pos c_4).symm).trans (if_neg c_2).symm) hP hS (lv_sub hl [0, 1, 2, 3] rfl)
        refine lv_aload_n hx hb dX3_sumOf_65 rfl (lv_at hl 2 rfl) ?_
        refine mk_get hAt hK hP 16 (by decide) (v := .ref (ad 12)) rfl (hts _ q806) rfl dX3_sumOf_66 ?_
        refine lv_sipush (v := 152) hx hb dX3_sumOf_69 (by decide) ?_
        refine mk_iald hAt hK hP 12 (f := nw) rfl 152 (by omega) (by decide) dX3_sumOf_72 ?_
        refine lv_goto (tgt := 121) hx hb dX3_sumOf_73 (by decide) ?_
        exact J121_3 _ _ _ (nw 152) ((if_pos c_2).symm) hP hS (lv_sub hl [0, 1, 2, 3] rfl)
      refine lv_iload_n hx hb dX3_sumOf_10 rfl (lv_at hl 1 rfl) ?_
      refine lv_iload_n hx hb dX3_sumOf_11 rfl (lv_at hl 3 rfl) ?_
      refine lv_iconst (v := 2) hx hb dX3_sumOf_12 (by decide) ?_
      have J53_8 : ∀ (H : Heap) (locs : List Loc) (ls : Array Slot) (t0 : Int32), t0 = (if x = 2 then nw (40 + i4) else (if x = 4 then (if 8 ≤ i4 then 0 else nw (144 + i4)) else 0)) → mP D ad σ nw az ir n th H → va_S A s.heap H locs → lv_has ls 4 [(3, .int (nI i4)), (2, .int (mk_sumR nw x i4)), (0, .ref (ad 0)), (1, .int x)] → W p l e (xk_R 1 22) s m args below meth c H locs 0 0 Q (F0 m 53 ls [.int t0, .int (mk_sumR nw x i4)]) := by
        intro H locs ls t0 et0 hP hS hl
        subst et0
        refine lv_iadd hx hb dX3_sumOf_53 ?_
        refine lv_istore_n (lv' := [(2, .int ((mk_sumR nw x i4) + (if x = 2 then nw (40 + i4) else (if x = 4 then (if 8 ≤ i4 then 0 else nw (144 + i4)) else 0)))), (3, .int (nI i4)), (0, .ref (ad 0)), (1, .int x)]) hx hb dX3_sumOf_54 rfl hl (by decide) rfl (fun ls hl => ?_)
        refine lv_iinc (v := nI (i4 + 1)) (lv' := [(3, .int (nI (i4 + 1))), (2, .int ((mk_sumR nw x i4) + (if x = 2 then nw (40 + i4) else (if x = 4 then (if 8 ≤ i4 then 0 else nw (144 + i4)) else 0)))), (0, .ref (ad 0)), (1, .int x)]) hx hb dX3_sumOf_55 hl (k := 1) rfl (xk_inc i4) (by decide) rfl (fun ls hl => ?_)
        refine lv_goto (tgt := 4) hx hb dX3_sumOf_58 (by decide) ?_
        exact ih4 (i4 + 1) (by omega) (by omega)  _ _ _ ((mk_sumR nw x i4) + (if x = 2 then nw (40 + i4) else (if x = 4 then (if 8 ≤ i4 then 0 else nw (144 + i4)) else 0))) (rfl) hP hS (lv_sub hl [0, 1, 2, 3] rfl)
      refine lv_icmp_ne (tgt := 28) hx hb dX3_sumOf_13 (by decide) (fun c_7 => ?_) (fun c_7 => ?_)
      · skip
        refine lv_iload_n hx hb dX3_sumOf_28 rfl (lv_at hl 3 rfl) ?_
        refine lv_iconst (v := 4) hx hb dX3_sumOf_29 (by decide) ?_
        refine lv_icmp_ne (tgt := 52) hx hb dX3_sumOf_30 (by decide) (fun c_9 => ?_) (fun c_9 => ?_)
        · skip
          refine lv_iconst (v := 0) hx hb dX3_sumOf_52 (by decide) ?_
          exact J53_8 _ _ _ 0 (((if_neg c_9).symm).trans (if_neg c_7).symm) hP hS (lv_sub hl [0, 1, 2, 3] rfl)
        refine lv_iload_n hx hb dX3_sumOf_33 rfl (lv_at hl 0 rfl) ?_
        refine lv_bipush (v := 8) hx hb dX3_sumOf_34 (by decide) ?_
        refine mk_ge (tgt := 52) (a := i4) (b := 8) hx hb (by omega) (by omega) dX3_sumOf_36 (by decide) (fun c_10 => ?_) (fun c_10 => ?_)
        · skip
          refine lv_iconst (v := 0) hx hb dX3_sumOf_52 (by decide) ?_
          exact J53_8 _ _ _ 0 ((((if_pos c_10).symm).trans (if_pos c_9).symm).trans (if_neg c_7).symm) hP hS (lv_sub hl [0, 1, 2, 3] rfl)
        refine lv_aload_n hx hb dX3_sumOf_39 rfl (lv_at hl 2 rfl) ?_
        refine mk_get hAt hK hP 16 (by decide) (v := .ref (ad 12)) rfl (hts _ q806) rfl dX3_sumOf_40 ?_
        refine lv_sipush (v := 144) hx hb dX3_sumOf_43 (by decide) ?_
        refine lv_iload_n hx hb dX3_sumOf_46 rfl (lv_at hl 0 rfl) ?_
        refine lv_iadd hx hb dX3_sumOf_47 ?_
        refine xk_to (y := nI (144 + i4)) (nI_add 144 i4) ?_
        refine mk_iald hAt hK hP 12 (f := nw) rfl (144 + i4) (by omega) (by decide) dX3_sumOf_48 ?_
        refine lv_goto (tgt := 53) hx hb dX3_sumOf_49 (by decide) ?_
        exact J53_8 _ _ _ (nw (144 + i4)) ((((if_neg (Nat.not_le.mpr c_10)).symm).trans (if_pos c_9).symm).trans (if_neg c_7).symm) hP hS (lv_sub hl [0, 1, 2, 3] rfl)
      refine lv_aload_n hx hb dX3_sumOf_16 rfl (lv_at hl 2 rfl) ?_
      refine mk_get hAt hK hP 16 (by decide) (v := .ref (ad 12)) rfl (hts _ q806) rfl dX3_sumOf_17 ?_
      refine lv_bipush (v := 40) hx hb dX3_sumOf_20 (by decide) ?_
      refine lv_iload_n hx hb dX3_sumOf_22 rfl (lv_at hl 0 rfl) ?_
      refine lv_iadd hx hb dX3_sumOf_23 ?_
      refine xk_to (y := nI (40 + i4)) (nI_add 40 i4) ?_
      refine mk_iald hAt hK hP 12 (f := nw) rfl (40 + i4) (by omega) (by decide) dX3_sumOf_24 ?_
      refine lv_goto (tgt := 53) hx hb dX3_sumOf_25 (by decide) ?_
      exact J53_8 _ _ _ (nw (40 + i4)) ((if_pos c_7).symm) hP hS (lv_sub hl [0, 1, 2, 3] rfl)
  exact L4 (40 + 1) 0 (by omega) (by omega)  _ _ _ 0 (rfl) hP hS (lv_sub hl [0, 1, 2, 3] rfl)
