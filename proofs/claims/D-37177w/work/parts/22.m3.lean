/-! THE MODEL's methods: pass, holes (printed by gen/model.py) -/
set_option maxRecDepth 100000
theorem cdX3_pass : yX3_pass.cls = RX3 ∧ yX3_pass.cls ≠ "java/lang/invoke/MethodHandle" ∧ yX3_pass.cls ≠ "java/lang/invoke/VarHandle" ∧ (parseMethodDescriptor yX3_pass.desc).map (fun d => d.parameters.length) = some 1 := by decide +kernel
theorem cdX3_lets : yX3_lets.cls = RX3 ∧ yX3_lets.cls ≠ "java/lang/invoke/MethodHandle" ∧ yX3_lets.cls ≠ "java/lang/invoke/VarHandle" ∧ (parseMethodDescriptor yX3_lets.desc).map (fun d => d.parameters.length) = some 1 := by decide +kernel
theorem cdX3_isTouched : yX3_isTouched.cls = RX3 ∧ yX3_isTouched.cls ≠ "java/lang/invoke/MethodHandle" ∧ yX3_isTouched.cls ≠ "java/lang/invoke/VarHandle" ∧ (parseMethodDescriptor yX3_isTouched.desc).map (fun d => d.parameters.length) = some 1 := by decide +kernel
theorem cdX3_isHole : yX3_isHole.cls = RX3 ∧ yX3_isHole.cls ≠ "java/lang/invoke/MethodHandle" ∧ yX3_isHole.cls ≠ "java/lang/invoke/VarHandle" ∧ (parseMethodDescriptor yX3_isHole.desc).map (fun d => d.parameters.length) = some 1 := by decide +kernel
theorem cdX3_holes : yX3_holes.cls = RX3 ∧ yX3_holes.cls ≠ "java/lang/invoke/MethodHandle" ∧ yX3_holes.cls ≠ "java/lang/invoke/VarHandle" ∧ (parseMethodDescriptor yX3_holes.desc).map (fun d => d.parameters.length) = some 0 := by decide +kernel
theorem cdX3_isOfLibrary : yX3_isOfLibrary.cls = RX3 ∧ yX3_isOfLibrary.cls ≠ "java/lang/invoke/MethodHandle" ∧ yX3_isOfLibrary.cls ≠ "java/lang/invoke/VarHandle" ∧ (parseMethodDescriptor yX3_isOfLibrary.desc).map (fun d => d.parameters.length) = some 1 := by decide +kernel
theorem cdX3_holesAnew : yX3_holesAnew.cls = RX3 ∧ yX3_holesAnew.cls ≠ "java/lang/invoke/MethodHandle" ∧ yX3_holesAnew.cls ≠ "java/lang/invoke/VarHandle" ∧ (parseMethodDescriptor yX3_holesAnew.desc).map (fun d => d.parameters.length) = some 0 := by decide +kernel
set_option maxHeartbeats 4000000 in
theorem m_pass (l : Launch) (D : xk_G) (A : Nat → Prop) (ad : Nat → Nat) (σ : Nat → Nat → Int32) (nw az ir : Nat → Int32) (n : Nat → Nat) (th : Int32) (hJ : mk_ok A ad) (h0m : n 0 ≤ 8) (h3m : n 3 ≤ 40) (h4m : n 4 ≤ 8) (x : Int32) : Met l yX3_pass (ws_ yX3_pass cX3_pass 3 (some .int)) (xk_R 7 161) (xk_Pre D A (mP D ad σ nw az ir n th) [.ref (ad 0), .int x]) (xk_Pi A (fun r H => if mk_tPass nw x = 0 then (r = mk_hours σ n nw x.toNatClampNeg 154 ∧ mP D ad σ (mk_hours σ n nw x.toNatClampNeg) az ir n 0 H) else mP D ad σ nw az ir n (mk_tPass nw x) H)) 0 0 A := by
  refine xk_startI (by decide +kernel) (Nat.le_of_ble_eq_true rfl) ?_
  intro p e s m args below meth c Q hAt hin hK hA hP hR ls hl
  obtain ⟨hx, hb, hml, hown, hts⟩ := id hAt
  have hl : lv_has ls 3 [(0, .ref (ad 0)), (1, .int x)] := hl
  have hS : va_S A s.heap s.heap [] := va_S.rf
  refine lv_aload_n hx hb dX3_pass_0 rfl (lv_at hl 0 rfl) ?_
  refine lv_iload_n hx hb dX3_pass_1 rfl (lv_at hl 1 rfl) ?_
  refine lv_iconst (v := 1) hx hb dX3_pass_2 (by decide) ?_
  refine lv_bipush (v := 48) hx hb dX3_pass_3 (by decide) ?_
  refine mk_ciS hAt hK (P := mP D ad σ nw az ir n th) hP hA hS (As := [.int x, .int 1, .int 48]) (rest := [.ref (ad 0)]) (m_in l D A (mP D ad σ nw az ir n th) x 1 48) (va_cwS 3 hts (lw_S q863 q864 q42 q865) rfl rfl rfl cdX3_in ⟨Nat.le_of_ble_eq_true rfl, Nat.le_of_ble_eq_true rfl⟩) rfl hl.1 rfl (Nat.le_of_ble_eq_true rfl) dX3_pass_5 ⟨Nat.le_refl _, Nat.le_refl _⟩ (fun r H locs hq hS => ?_)
  obtain ⟨rfl, hP⟩ := hq
  have J36_2 : ∀ (H : Heap) (locs : List Loc) (ls : Array Slot) (t0 : Int32), t0 = (if mk_in x 1 48 then (if ((nw 154) + x) ≤ 9999 then 0 else 2) else 1) → mP D ad σ nw az ir n th H → va_S A s.heap H locs → lv_has ls 3 [(0, .ref (ad 0)), (1, .int x)] → W p l e (xk_R 7 161) s m args below meth c H locs 0 0 Q (F0 m 36 ls [.int t0, .ref (ad 0)]) := by
    intro H locs ls t0 et0 hP hS hl
    subst et0
    refine mk_put hAt hK hJ hP hS 18 (by decide) (hts _ q808) rfl rfl (ty := .int) (by decide +kernel) rfl rfl (ad' := ad) (n' := n) (th' := (if mk_in x 1 48 then (if ((nw 154) + x) ≤ 9999 then 0 else 2) else 1)) rfl rfl dX3_pass_36 (fun H locs hP hS => ?_)
    have hP : mP D ad σ nw az ir n (if mk_in x 1 48 then (if ((nw 154) + x) ≤ 9999 then 0 else 2) else 1) H := hP
    have hP : mP D ad σ nw az ir n (mk_tPass nw x) H := hP
    by_cases ht : mk_tPass nw x = 0
    · skip
      obtain ⟨ex, ex1, ex2⟩ := mk_in48 (mk_tPass_f ht)
      have hP : mP D ad σ nw az ir n 0 H := by rw [← ht]; exact hP
      have hl : lv_has ls 3 [(0, .ref (ad 0)), (1, .int (nI x.toNatClampNeg))] := by rw [← ex]; exact hl
      refine lv_iconst (v := 0) hx hb dX3_pass_39 (by decide) ?_
      refine lv_istore_n (lv' := [(2, .int 0), (0, .ref (ad 0)), (1, .int (nI x.toNatClampNeg))]) hx hb dX3_pass_40 rfl hl (by decide) rfl (fun ls hl => ?_)
      have L41 : ∀ (j i41 : Nat), x.toNatClampNeg + 1 ≤ i41 + j → i41 ≤ x.toNatClampNeg → ∀ (H : Heap) (locs : List Loc) (ls : Array Slot) (znw : Nat → Int32), znw = mk_hours σ n nw i41 → mP D ad σ znw az ir n 0 H → va_S A s.heap H locs → lv_has ls 3 [(2, .int (nI i41)), (0, .ref (ad 0)), (1, .int (nI x.toNatClampNeg))] → W p l e (xk_R 7 161) s m args below meth c H locs 0 0 Q (F0 m 41 ls []) := by
        intro j
        induction j with
        | zero => intro i41 h41a h41b; exact absurd h41a (by omega)
        | succ j ih41 =>
          intro i41 h41a h41b  H locs ls znw eznw hP hS hl
          subst eznw
          refine lv_iload_n hx hb dX3_pass_41 rfl (lv_at hl 0 rfl) ?_
          refine lv_iload_n hx hb dX3_pass_42 rfl (lv_at hl 2 rfl) ?_
          refine mk_ge (tgt := 63) (a := i41) (b := x.toNatClampNeg) hx hb (by omega) (by omega) dX3_pass_43 (by decide) (fun c_3 => ?_) (fun c_3 => ?_)
          · skip
            obtain rfl : i41 = x.toNatClampNeg := by omega
            refine lv_aload_n hx hb dX3_pass_63 rfl (lv_at hl 1 rfl) ?_
            refine mk_get hAt hK hP 18 (by decide) (v := .int 0) rfl (hts _ q808) rfl dX3_pass_64 ?_
            refine lv_if_ne (tgt := 81) hx hb dX3_pass_67 (by decide) (fun c_4 => ?_) (fun c_4 => ?_)
            · exact absurd (by decide) c_4
            refine lv_aload_n hx hb dX3_pass_70 rfl (lv_at hl 1 rfl) ?_
            refine mk_get hAt hK hP 16 (by decide) (v := .ref (ad 12)) rfl (hts _ q806) rfl dX3_pass_71 ?_
            refine lv_sipush (v := 154) hx hb dX3_pass_74 (by decide) ?_
            refine mk_iald hAt hK hP 12 (f := mk_hours σ n nw x.toNatClampNeg) rfl 154 (by omega) (by decide) dX3_pass_77 ?_
            refine lv_goto (tgt := 82) hx hb dX3_pass_78 (by decide) ?_
            exact hR _ _ _ _ _ dX3_pass_82 (xk_ifp ht ⟨rfl, hP⟩) hS
          refine lv_aload_n hx hb dX3_pass_46 rfl (lv_at hl 1 rfl) ?_
          refine mk_get hAt hK hP 18 (by decide) (v := .int 0) rfl (hts _ q808) rfl dX3_pass_47 ?_
          refine lv_if_ne (tgt := 63) hx hb dX3_pass_50 (by decide) (fun c_5 => ?_) (fun c_5 => ?_)
          · exact absurd (by decide) c_5
          refine lv_aload_n hx hb dX3_pass_53 rfl (lv_at hl 1 rfl) ?_
          refine mk_cvV hAt hK hP hA hS (As := []) (rest := []) (m_hour l D A ad σ (mk_hours σ n nw i41) az ir n 0 hJ (by assumption) (by assumption) (by assumption)) (cwV 0 hts (lw_V q952 q954 qs19 q42 q955) rfl rfl rfl cdX3_hour ⟨Nat.le_of_ble_eq_true rfl, Nat.le_of_ble_eq_true rfl⟩) rfl hl.1 rfl (Nat.le_of_ble_eq_true rfl) dX3_pass_54 ⟨Nat.le_refl _, Nat.le_refl _⟩ (fun H locs hP hS => ?_)
          refine lv_iinc (v := nI (i41 + 1)) (lv' := [(2, .int (nI (i41 + 1))), (0, .ref (ad 0)), (1, .int (nI x.toNatClampNeg))]) hx hb dX3_pass_57 hl (k := 0) rfl (xk_inc i41) (by decide) rfl (fun ls hl => ?_)
          refine lv_goto (tgt := 41) hx hb dX3_pass_60 (by decide) ?_
          exact ih41 (i41 + 1) (by omega) (by omega)  _ _ _ (mk_hour σ n (mk_hours σ n nw i41)) (rfl) hP hS (lv_sub hl [0, 1, 2] rfl)
      exact L41 (x.toNatClampNeg + 1) 0 (by omega) (by omega)  _ _ _ nw (rfl) hP hS (lv_sub hl [0, 1, 2] rfl)
    · skip
      refine lv_iconst (v := 0) hx hb dX3_pass_39 (by decide) ?_
      refine lv_istore_n (lv' := [(2, .int 0), (0, .ref (ad 0)), (1, .int x)]) hx hb dX3_pass_40 rfl hl (by decide) rfl (fun ls hl => ?_)
      refine lv_iload_n hx hb dX3_pass_41 rfl (lv_at hl 0 rfl) ?_
      refine lv_iload_n hx hb dX3_pass_42 rfl (lv_at hl 2 rfl) ?_
      have J63_7 : ∀ (H : Heap) (locs : List Loc) (ls : Array Slot), mP D ad σ nw az ir n (mk_tPass nw x) H → va_S A s.heap H locs → lv_has ls 3 [(2, .int 0), (0, .ref (ad 0)), (1, .int x)] → W p l e (xk_R 7 161) s m args below meth c H locs 0 0 Q (F0 m 63 ls []) := by
        intro H locs ls   hP hS hl
        refine lv_aload_n hx hb dX3_pass_63 rfl (lv_at hl 1 rfl) ?_
        refine mk_get hAt hK hP 18 (by decide) (v := .int (mk_tPass nw x)) rfl (hts _ q808) rfl dX3_pass_64 ?_
        refine lv_if_ne (tgt := 81) hx hb dX3_pass_67 (by decide) (fun c_8 => ?_) (fun c_8 => ?_)
        · skip
          refine lv_iconst (v := 0) hx hb dX3_pass_81 (by decide) ?_
          exact hR _ _ _ _ _ dX3_pass_82 (xk_ifn ht hP) hS
        exact absurd c_8 ht
      refine lv_icmp_ge (tgt := 63) hx hb dX3_pass_43 (by decide) (fun c_6 => ?_) (fun c_6 => ?_)
      · skip
        exact J63_7 _ _ _   hP hS (lv_sub hl [0, 1, 2] rfl)
      refine lv_aload_n hx hb dX3_pass_46 rfl (lv_at hl 1 rfl) ?_
      refine mk_get hAt hK hP 18 (by decide) (v := .int (mk_tPass nw x)) rfl (hts _ q808) rfl dX3_pass_47 ?_
      refine lv_if_ne (tgt := 63) hx hb dX3_pass_50 (by decide) (fun c_9 => ?_) (fun c_9 => ?_)
      · skip
        exact J63_7 _ _ _   hP hS (lv_sub hl [0, 1, 2] rfl)
      exact absurd c_9 ht
  refine xk_ifne (tgt := 15) hx hb dX3_pass_8 (by decide) (fun c_1 => ?_) (fun c_1 => ?_)
  · skip
    refine lv_aload_n hx hb dX3_pass_15 rfl (lv_at hl 0 rfl) ?_
    refine mk_get hAt hK hP 16 (by decide) (v := .ref (ad 12)) rfl (hts _ q806) rfl dX3_pass_16 ?_
    refine lv_sipush (v := 154) hx hb dX3_pass_19 (by decide) ?_
    refine mk_iald hAt hK hP 12 (f := nw) rfl 154 (by omega) (by decide) dX3_pass_22 ?_
    refine lv_iload_n hx hb dX3_pass_23 rfl (lv_at hl 1 rfl) ?_
    refine lv_iadd hx hb dX3_pass_24 ?_
    refine lv_sipush (v := 9999) hx hb dX3_pass_25 (by decide) ?_
    refine lv_icmp_le (tgt := 35) hx hb dX3_pass_28 (by decide) (fun c_10 => ?_) (fun c_10 => ?_)
    · skip
      refine lv_iconst (v := 0) hx hb dX3_pass_35 (by decide) ?_
      exact J36_2 _ _ _ 0 (((if_pos c_10).symm).trans (if_pos c_1).symm) hP hS (lv_sub hl [0, 1] rfl)
    refine lv_iconst (v := 2) hx hb dX3_pass_31 (by decide) ?_
    refine lv_goto (tgt := 36) hx hb dX3_pass_32 (by decide) ?_
    exact J36_2 _ _ _ 2 (((if_neg c_10).symm).trans (if_pos c_1).symm) hP hS (lv_sub hl [0, 1] rfl)
  refine lv_iconst (v := 1) hx hb dX3_pass_11 (by decide) ?_
  refine lv_goto (tgt := 36) hx hb dX3_pass_12 (by decide) ?_
  exact J36_2 _ _ _ 1 ((if_neg c_1).symm) hP hS (lv_sub hl [0, 1] rfl)
set_option maxHeartbeats 4000000 in
theorem m_lets (l : Launch) (D : xk_G) (A : Nat → Prop) (ad : Nat → Nat) (σ : Nat → Nat → Int32) (nw az ir : Nat → Int32) (n : Nat → Nat) (th : Int32) (hJ : mk_ok A ad) (h0m : n 0 ≤ 8) (x : Int32) : Met l yX3_lets (ws_ yX3_lets cX3_lets 3 (some .boolean)) (xk_R 3 69) (xk_Pre D A (mP D ad σ nw az ir n th) [.ref (ad 0), .int x]) (xk_Pi A (fun r H => r = xk_b (mk_lets σ n x) ∧ mP D ad σ nw az ir n th H)) 0 0 A := by
  refine xk_startZ (by decide +kernel) (Nat.le_of_ble_eq_true rfl) (fun r H h => by rw [h.1]; exact xk_b01 _) ?_
  intro p e s m args below meth c Q hAt hin hK hA hP hR ls hl
  obtain ⟨hx, hb, hml, hown, hts⟩ := id hAt
  have hl : lv_has ls 3 [(0, .ref (ad 0)), (1, .int x)] := hl
  have hS : va_S A s.heap s.heap [] := va_S.rf
  refine lv_aload_n hx hb dX3_lets_0 rfl (lv_at hl 0 rfl) ?_
  refine lv_iload_n hx hb dX3_lets_1 rfl (lv_at hl 1 rfl) ?_
  refine mk_ciV hAt hK hP hA hS (As := [.int x]) (rest := []) (m_near l D A ad σ nw az ir n th hJ (by assumption) x) (cwV 1 hts (lw_V q896 q898 qs15 q42 q899) rfl rfl rfl cdX3_near ⟨Nat.le_of_ble_eq_true rfl, Nat.le_of_ble_eq_true rfl⟩) rfl hl.1 rfl (Nat.le_of_ble_eq_true rfl) dX3_lets_2 ⟨Nat.le_refl _, Nat.le_refl _⟩ (fun r H locs hq hS => ?_)
  obtain ⟨rfl, hP⟩ := hq
  refine lv_istore_n (lv' := [(2, .int (mk_near σ n x)), (0, .ref (ad 0)), (1, .int x)]) hx hb dX3_lets_5 rfl hl (by decide) rfl (fun ls hl => ?_)
  refine lv_iload_n hx hb dX3_lets_6 rfl (lv_at hl 0 rfl) ?_
  refine lv_aload_n hx hb dX3_lets_7 rfl (lv_at hl 1 rfl) ?_
  refine mk_get hAt hK hP 1 (by decide) (v := .ref (ad 2)) rfl (hts _ q791) rfl dX3_lets_8 ?_
  refine lv_iconst (v := 1) hx hb dX3_lets_11 (by decide) ?_
  refine mk_iald hAt hK hP 2 (f := σ 1) rfl 1 (by omega) (by decide) dX3_lets_12 ?_
  have J31_2 : ∀ (H : Heap) (locs : List Loc) (ls : Array Slot) (t0 : Int32), t0 = xk_b (¬ (σ 1 1 ≤ mk_near σ n x) ∧ ¬ (mk_near σ n x < σ 1 2)) → mP D ad σ nw az ir n th H → va_S A s.heap H locs → lv_has ls 3 [(2, .int (mk_near σ n x)), (0, .ref (ad 0)), (1, .int x)] → W p l e (xk_R 3 69) s m args below meth c H locs 0 0 Q (F0 m 31 ls [.int t0]) := by
    intro H locs ls t0 et0 hP hS hl
    subst et0
    exact hR _ _ _ _ _ dX3_lets_31 (⟨rfl, hP⟩) hS
  refine lv_icmp_ge (tgt := 30) hx hb dX3_lets_13 (by decide) (fun c_1 => ?_) (fun c_1 => ?_)
  · skip
    refine lv_iconst (v := 0) hx hb dX3_lets_30 (by decide) ?_
    exact J31_2 _ _ _ 0 ((if_neg (fun h => h.1 c_1)).symm) hP hS (lv_sub hl [0, 1, 2] rfl)
  refine lv_iload_n hx hb dX3_lets_16 rfl (lv_at hl 0 rfl) ?_
  refine lv_aload_n hx hb dX3_lets_17 rfl (lv_at hl 1 rfl) ?_
  refine mk_get hAt hK hP 1 (by decide) (v := .ref (ad 2)) rfl (hts _ q791) rfl dX3_lets_18 ?_
  refine lv_iconst (v := 2) hx hb dX3_lets_21 (by decide) ?_
  refine mk_iald hAt hK hP 2 (f := σ 1) rfl 2 (by omega) (by decide) dX3_lets_22 ?_
  refine lv_icmp_lt (tgt := 30) hx hb dX3_lets_23 (by decide) (fun c_3 => ?_) (fun c_3 => ?_)
  · skip
    refine lv_iconst (v := 0) hx hb dX3_lets_30 (by decide) ?_
    exact J31_2 _ _ _ 0 ((if_neg (fun h => (fun h => h c_3) h.2)).symm) hP hS (lv_sub hl [0, 1, 2] rfl)
  refine lv_iconst (v := 1) hx hb dX3_lets_26 (by decide) ?_
  refine lv_goto (tgt := 31) hx hb dX3_lets_27 (by decide) ?_
  exact J31_2 _ _ _ 1 ((if_pos ⟨c_1, c_3⟩).symm) hP hS (lv_sub hl [0, 1, 2] rfl)
set_option maxHeartbeats 4000000 in
theorem m_isTouched (l : Launch) (D : xk_G) (A : Nat → Prop) (ad : Nat → Nat) (σ : Nat → Nat → Int32) (nw az ir : Nat → Int32) (n : Nat → Nat) (th : Int32) (hJ : mk_ok A ad) (h0m : n 0 ≤ 8) (h1m : n 1 ≤ 4) (h2m : n 2 ≤ 4) (x : Int32) : Met l yX3_isTouched (ws_ yX3_isTouched cX3_isTouched 5 (some .boolean)) (xk_R 4 91) (xk_Pre D A (mP D ad σ nw az ir n th) [.ref (ad 0), .int x]) (xk_Pi A (fun r H => r = xk_b (mk_tcd σ n x = true) ∧ mP D ad σ nw az ir n th H)) 0 0 A := by
  refine xk_startZ (by decide +kernel) (Nat.le_of_ble_eq_true rfl) (fun r H h => by rw [h.1]; exact xk_b01 _) ?_
  intro p e s m args below meth c Q hAt hin hK hA hP hR ls hl
  obtain ⟨hx, hb, hml, hown, hts⟩ := id hAt
  have hl : lv_has ls 5 [(0, .ref (ad 0)), (1, .int x)] := hl
  have hS : va_S A s.heap s.heap [] := va_S.rf
  have hN : (4 * n 1) * n 2 ≤ 64 := Nat.le_trans (Nat.mul_le_mul (Nat.mul_le_mul (Nat.le_refl 4) h1m) h2m) (by decide)
  refine lv_iconst (v := 0) hx hb dX3_isTouched_0 (by decide) ?_
  refine lv_istore_n (lv' := [(2, .int 0), (0, .ref (ad 0)), (1, .int x)]) hx hb dX3_isTouched_1 rfl hl (by decide) rfl (fun ls hl => ?_)
  have L2 : ∀ (j i2 : Nat), (4 * n 1) * n 2 + 1 ≤ i2 + j → i2 ≤ (4 * n 1) * n 2 → mk_tcdR σ n x i2 = false → ∀ (H : Heap) (locs : List Loc) (ls : Array Slot), mP D ad σ nw az ir n th H → va_S A s.heap H locs → lv_has ls 5 [(2, .int (nI i2)), (0, .ref (ad 0)), (1, .int x)] → W p l e (xk_R 4 91) s m args below meth c H locs 0 0 Q (F0 m 2 ls []) := by
    intro j
    induction j with
    | zero => intro i2 h2a h2b; exact absurd h2a (by omega)
    | succ j ih2 =>
      intro i2 h2a h2b hi2_0 H locs ls   hP hS hl
      refine lv_iload_n hx hb dX3_isTouched_2 rfl (lv_at hl 0 rfl) ?_
      refine lv_iconst (v := 4) hx hb dX3_isTouched_3 (by decide) ?_
      refine lv_aload_n hx hb dX3_isTouched_4 rfl (lv_at hl 1 rfl) ?_
      refine mk_get hAt hK hP 4 (by decide) (v := .int (nI (n 1))) rfl (hts _ q794) rfl dX3_isTouched_5 ?_
      refine lv_imul hx hb dX3_isTouched_8 ?_
      refine xk_to (y := nI (4 * n 1)) (pk_mul 4 (n 1)) ?_
      refine lv_aload_n hx hb dX3_isTouched_9 rfl (lv_at hl 1 rfl) ?_
      refine mk_get hAt hK hP 7 (by decide) (v := .int (nI (n 2))) rfl (hts _ q797) rfl dX3_isTouched_10 ?_
      refine lv_imul hx hb dX3_isTouched_13 ?_
      refine xk_to (y := nI ((4 * n 1) * n 2)) (pk_mul (4 * n 1) (n 2)) ?_
      refine mk_ge (tgt := 94) (a := i2) (b := (4 * n 1) * n 2) hx hb (by omega) (by omega) dX3_isTouched_14 (by decide) (fun c_1 => ?_) (fun c_1 => ?_)
      · skip
        obtain rfl : i2 = (4 * n 1) * n 2 := by omega
        refine lv_iconst (v := 0) hx hb dX3_isTouched_94 (by decide) ?_
        exact hR _ _ _ _ _ dX3_isTouched_95 (⟨(if_neg (by rw [mk_tcd, hi2_0]; decide)).symm, hP⟩) hS
      have hn2 : 0 < n 2 := Nat.pos_of_ne_zero (fun z => by rw [z, Nat.mul_zero] at c_1; exact absurd c_1 (Nat.not_lt_zero _))
      have hq1 : i2 / 4 / n 2 < n 1 := by rw [Nat.div_lt_iff_lt_mul hn2, Nat.div_lt_iff_lt_mul (by omega), Nat.mul_comm (n 1 * n 2) 4, ← Nat.mul_assoc]; exact c_1
      have hq2 : i2 / 4 % n 2 < n 2 := Nat.mod_lt _ hn2
      have hq3 : i2 % 4 < 4 := Nat.mod_lt _ (by omega)
      refine lv_iload_n hx hb dX3_isTouched_17 rfl (lv_at hl 0 rfl) ?_
      refine lv_iconst (v := 4) hx hb dX3_isTouched_18 (by decide) ?_
      refine lv_idiv hx hb dX3_isTouched_19 (by decide) ?_
      refine xk_to (y := nI (i2 / 4)) (pk_div (a := i2) (d := 4) (by omega) (by omega) (by omega)) ?_
      refine lv_aload_n hx hb dX3_isTouched_20 rfl (lv_at hl 1 rfl) ?_
      refine mk_get hAt hK hP 7 (by decide) (v := .int (nI (n 2))) rfl (hts _ q797) rfl dX3_isTouched_21 ?_
      refine lv_idiv hx hb dX3_isTouched_24 (nI_ne0 (by omega) (by omega)) ?_
      refine xk_to (y := nI ((i2 / 4) / n 2)) (pk_div (a := i2 / 4) (d := n 2) (by omega) (by omega) (by omega)) ?_
      refine lv_istore_n (lv' := [(3, .int (nI ((i2 / 4) / n 2))), (2, .int (nI i2)), (0, .ref (ad 0)), (1, .int x)]) hx hb dX3_isTouched_25 rfl hl (by decide) rfl (fun ls hl => ?_)
      refine lv_aload_n hx hb dX3_isTouched_26 rfl (lv_at hl 2 rfl) ?_
      refine mk_get hAt hK hP 5 (by decide) (v := .ref (ad 4)) rfl (hts _ q795) rfl dX3_isTouched_27 ?_
      refine lv_iload_n hx hb dX3_isTouched_30 rfl (lv_at hl 0 rfl) ?_
      refine mk_iald hAt hK hP 4 (f := σ 3) rfl ((i2 / 4) / n 2) (by omega) (by decide) dX3_isTouched_31 ?_
      refine lv_iconst (v := 4) hx hb dX3_isTouched_32 (by decide) ?_
      refine lv_aload_n hx hb dX3_isTouched_33 rfl (lv_at hl 2 rfl) ?_
      refine mk_get hAt hK hP 6 (by decide) (v := .ref (ad 5)) rfl (hts _ q796) rfl dX3_isTouched_34 ?_
      refine lv_iload_n hx hb dX3_isTouched_37 rfl (lv_at hl 0 rfl) ?_
      refine mk_iald hAt hK hP 5 (f := σ 4) rfl ((i2 / 4) / n 2) (by omega) (by decide) dX3_isTouched_38 ?_
      refine lv_imul hx hb dX3_isTouched_39 ?_
      refine lv_iadd hx hb dX3_isTouched_40 ?_
      refine lv_bipush (v := 16) hx hb dX3_isTouched_41 (by decide) ?_
      refine lv_aload_n hx hb dX3_isTouched_43 rfl (lv_at hl 2 rfl) ?_
      refine mk_get hAt hK hP 8 (by decide) (v := .ref (ad 6)) rfl (hts _ q798) rfl dX3_isTouched_44 ?_
      refine lv_iload_n hx hb dX3_isTouched_47 rfl (lv_at hl 1 rfl) ?_
      refine lv_iconst (v := 4) hx hb dX3_isTouched_48 (by decide) ?_
      refine lv_idiv hx hb dX3_isTouched_49 (by decide) ?_
      refine xk_to (y := nI (i2 / 4)) (pk_div (a := i2) (d := 4) (by omega) (by omega) (by omega)) ?_
      refine lv_aload_n hx hb dX3_isTouched_50 rfl (lv_at hl 2 rfl) ?_
      refine mk_get hAt hK hP 7 (by decide) (v := .int (nI (n 2))) rfl (hts _ q797) rfl dX3_isTouched_51 ?_
      refine lv_irem hx hb dX3_isTouched_54 (nI_ne0 (by omega) (by omega)) ?_
      refine xk_to (y := nI ((i2 / 4) % n 2)) (pk_rem (a := i2 / 4) (d := n 2) (by omega) (by omega) (by omega)) ?_
      refine mk_iald hAt hK hP 6 (f := σ 5) rfl ((i2 / 4) % n 2) (by omega) (by decide) dX3_isTouched_55 ?_
      refine lv_imul hx hb dX3_isTouched_56 ?_
      refine lv_iadd hx hb dX3_isTouched_57 ?_
      refine lv_bipush (v := 64) hx hb dX3_isTouched_58 (by decide) ?_
      refine lv_iload_n hx hb dX3_isTouched_60 rfl (lv_at hl 1 rfl) ?_
      refine lv_iconst (v := 4) hx hb dX3_isTouched_61 (by decide) ?_
      refine lv_irem hx hb dX3_isTouched_62 (by decide) ?_
      refine xk_to (y := nI (i2 % 4)) (pk_rem (a := i2) (d := 4) (by omega) (by omega) (by omega)) ?_
      refine lv_imul hx hb dX3_isTouched_63 ?_
      refine lv_iadd hx hb dX3_isTouched_64 ?_
      refine lv_istore (lv' := [(4, .int ((((σ 3 ((i2 / 4) / n 2)) + (4 * (σ 4 ((i2 / 4) / n 2)))) + (16 * (σ 5 ((i2 / 4) % n 2)))) + (64 * (nI (i2 % 4))))), (3, .int (nI ((i2 / 4) / n 2))), (2, .int (nI i2)), (0, .ref (ad 0)), (1, .int x)]) hx hb dX3_isTouched_65 hl (by decide) rfl (fun ls hl => ?_)
      have hl : lv_has ls 5 [(4, .int (mk_tlock σ n i2)), (3, .int (nI ((i2 / 4) / n 2))), (2, .int (nI i2)), (0, .ref (ad 0)), (1, .int x)] := hl
      refine lv_aload_n hx hb dX3_isTouched_67 rfl (lv_at hl 3 rfl) ?_
      refine lv_iload hx hb dX3_isTouched_68 (lv_at hl 0 rfl) ?_
      refine lv_iload_n hx hb dX3_isTouched_70 rfl (lv_at hl 4 rfl) ?_
      refine mk_ciV hAt hK hP hA hS (As := [.int (mk_tlock σ n i2), .int x]) (rest := []) (m_touches l D A ad σ nw az ir n th hJ (mk_tlock σ n i2) x) (cwV 2 hts (lw_V q944 q946 qs18 q42 q947) rfl rfl rfl cdX3_touches ⟨Nat.le_of_ble_eq_true rfl, Nat.le_of_ble_eq_true rfl⟩) rfl hl.1 rfl (Nat.le_of_ble_eq_true rfl) dX3_isTouched_71 ⟨Nat.le_refl _, Nat.le_refl _⟩ (fun r H locs hq hS => ?_)
      obtain ⟨rfl, hP⟩ := hq
      refine xk_ifeq (tgt := 88) hx hb dX3_isTouched_74 (by decide) (fun c_2 => ?_) (fun c_2 => ?_)
      · skip
        refine lv_iinc (v := nI (i2 + 1)) (lv' := [(2, .int (nI (i2 + 1))), (4, .int (mk_tlock σ n i2)), (3, .int (nI ((i2 / 4) / n 2))), (0, .ref (ad 0)), (1, .int x)]) hx hb dX3_isTouched_88 hl (k := 2) rfl (xk_inc i2) (by decide) rfl (fun ls hl => ?_)
        refine lv_goto (tgt := 2) hx hb dX3_isTouched_91 (by decide) ?_
        exact ih2 (i2 + 1) (by omega) (by omega) (mk_tcdR_no hi2_0 (fun h => c_2 h.1)) _ _ _   hP hS (lv_sub hl [0, 3, 4] rfl)
      refine lv_aload_n hx hb dX3_isTouched_77 rfl (lv_at hl 3 rfl) ?_
      refine lv_iload hx hb dX3_isTouched_78 (lv_at hl 0 rfl) ?_
      refine mk_ciV hAt hK hP hA hS (As := [.int (mk_tlock σ n i2)]) (rest := []) (m_lets l D A ad σ nw az ir n th hJ (by assumption) (mk_tlock σ n i2)) (cwV 1 hts (lw_V q1024 q1026 qs34 q42 q1027) rfl rfl rfl cdX3_lets ⟨Nat.le_of_ble_eq_true rfl, Nat.le_of_ble_eq_true rfl⟩) rfl hl.1 rfl (Nat.le_of_ble_eq_true rfl) dX3_isTouched_80 ⟨Nat.le_refl _, Nat.le_refl _⟩ (fun r H locs hq hS => ?_)
      obtain ⟨rfl, hP⟩ := hq
      refine xk_ifeq (tgt := 88) hx hb dX3_isTouched_83 (by decide) (fun c_3 => ?_) (fun c_3 => ?_)
      · skip
        refine lv_iinc (v := nI (i2 + 1)) (lv' := [(2, .int (nI (i2 + 1))), (4, .int (mk_tlock σ n i2)), (3, .int (nI ((i2 / 4) / n 2))), (0, .ref (ad 0)), (1, .int x)]) hx hb dX3_isTouched_88 hl (k := 2) rfl (xk_inc i2) (by decide) rfl (fun ls hl => ?_)
        refine lv_goto (tgt := 2) hx hb dX3_isTouched_91 (by decide) ?_
        exact ih2 (i2 + 1) (by omega) (by omega) (mk_tcdR_no hi2_0 (fun h => c_3 h.2)) _ _ _   hP hS (lv_sub hl [0, 3, 4] rfl)
      refine lv_iconst (v := 1) hx hb dX3_isTouched_86 (by decide) ?_
      exact hR _ _ _ _ _ dX3_isTouched_87 (⟨(if_pos (mk_tcdR_at c_1 ⟨c_2, c_3⟩)).symm, hP⟩) hS
  exact L2 ((4 * n 1) * n 2 + 1) 0 (by omega) (by omega) (rfl) _ _ _   hP hS (lv_sub hl [0, 1, 2] rfl)
set_option maxHeartbeats 4000000 in
theorem m_isHole (l : Launch) (D : xk_G) (A : Nat → Prop) (ad : Nat → Nat) (σ : Nat → Nat → Int32) (nw az ir : Nat → Int32) (n : Nat → Nat) (th : Int32) (hJ : mk_ok A ad) (h0m : n 0 ≤ 8) (h1m : n 1 ≤ 4) (h2m : n 2 ≤ 4) (x : Int32) : Met l yX3_isHole (ws_ yX3_isHole cX3_isHole 2 (some .boolean)) (xk_R 5 115) (xk_Pre D A (mP D ad σ nw az ir n th) [.ref (ad 0), .int x]) (xk_Pi A (fun r H => r = xk_b (mk_tWord x = 0 ∧ ¬ (mk_tcd σ n x = true)) ∧ mP D ad σ nw az ir n (mk_tWord x) H)) 0 0 A := by
  refine xk_startZ (by decide +kernel) (Nat.le_of_ble_eq_true rfl) (fun r H h => by rw [h.1]; exact xk_b01 _) ?_
  intro p e s m args below meth c Q hAt hin hK hA hP hR ls hl
  obtain ⟨hx, hb, hml, hown, hts⟩ := id hAt
  have hl : lv_has ls 2 [(0, .ref (ad 0)), (1, .int x)] := hl
  have hS : va_S A s.heap s.heap [] := va_S.rf
  refine lv_aload_n hx hb dX3_isHole_0 rfl (lv_at hl 0 rfl) ?_
  refine lv_iload_n hx hb dX3_isHole_1 rfl (lv_at hl 1 rfl) ?_
  refine mk_ciS hAt hK (P := mP D ad σ nw az ir n th) hP hA hS (As := [.int x]) (rest := [.ref (ad 0)]) (m_isWord l D A (mP D ad σ nw az ir n th) x) (va_cwS 1 hts (lw_S q870 q871 q42 q872) rfl rfl rfl cdX3_isWord ⟨Nat.le_of_ble_eq_true rfl, Nat.le_of_ble_eq_true rfl⟩) rfl hl.1 rfl (Nat.le_of_ble_eq_true rfl) dX3_isHole_2 ⟨Nat.le_refl _, Nat.le_refl _⟩ (fun r H locs hq hS => ?_)
  obtain ⟨rfl, hP⟩ := hq
  have J13_2 : ∀ (H : Heap) (locs : List Loc) (ls : Array Slot) (t0 : Int32), t0 = xk_b (¬ (mk_in x 0 255)) → mP D ad σ nw az ir n th H → va_S A s.heap H locs → lv_has ls 2 [(0, .ref (ad 0)), (1, .int x)] → W p l e (xk_R 5 115) s m args below meth c H locs 0 0 Q (F0 m 13 ls [.int t0, .ref (ad 0)]) := by
    intro H locs ls t0 et0 hP hS hl
    subst et0
    refine mk_put hAt hK hJ hP hS 18 (by decide) (hts _ q808) rfl rfl (ty := .int) (by decide +kernel) rfl rfl (ad' := ad) (n' := n) (th' := xk_b (¬ (mk_in x 0 255))) rfl rfl dX3_isHole_13 (fun H locs hP hS => ?_)
    have hP : mP D ad σ nw az ir n (xk_b (¬ (mk_in x 0 255))) H := hP
    have hP : mP D ad σ nw az ir n (mk_tWord x) H := hP
    refine lv_aload_n hx hb dX3_isHole_16 rfl (lv_at hl 0 rfl) ?_
    refine mk_get hAt hK hP 18 (by decide) (v := .int (mk_tWord x)) rfl (hts _ q808) rfl dX3_isHole_17 ?_
    have J36_4 : ∀ (H : Heap) (locs : List Loc) (ls : Array Slot) (t0 : Int32), t0 = xk_b (mk_tWord x = 0 ∧ ¬ (mk_tcd σ n x = true)) → mP D ad σ nw az ir n (mk_tWord x) H → va_S A s.heap H locs → lv_has ls 2 [(0, .ref (ad 0)), (1, .int x)] → W p l e (xk_R 5 115) s m args below meth c H locs 0 0 Q (F0 m 36 ls [.int t0]) := by
      intro H locs ls t0 et0 hP hS hl
      subst et0
      exact hR _ _ _ _ _ dX3_isHole_36 (⟨rfl, hP⟩) hS
    refine lv_if_ne (tgt := 35) hx hb dX3_isHole_20 (by decide) (fun c_3 => ?_) (fun c_3 => ?_)
    · skip
      refine lv_iconst (v := 0) hx hb dX3_isHole_35 (by decide) ?_
      exact J36_4 _ _ _ 0 ((if_neg (fun h => c_3 h.1)).symm) hP hS (lv_sub hl [0, 1] rfl)
    refine lv_aload_n hx hb dX3_isHole_23 rfl (lv_at hl 0 rfl) ?_
    refine lv_iload_n hx hb dX3_isHole_24 rfl (lv_at hl 1 rfl) ?_
    refine mk_ciV hAt hK hP hA hS (As := [.int x]) (rest := []) (m_isTouched l D A ad σ nw az ir n (mk_tWord x) hJ (by assumption) (by assumption) (by assumption) x) (cwV 1 hts (lw_V q1020 q1022 qs33 q42 q1023) rfl rfl rfl cdX3_isTouched ⟨Nat.le_of_ble_eq_true rfl, Nat.le_of_ble_eq_true rfl⟩) rfl hl.1 rfl (Nat.le_of_ble_eq_true rfl) dX3_isHole_25 ⟨Nat.le_refl _, Nat.le_refl _⟩ (fun r H locs hq hS => ?_)
    obtain ⟨rfl, hP⟩ := hq
    refine xk_ifne (tgt := 35) hx hb dX3_isHole_28 (by decide) (fun c_5 => ?_) (fun c_5 => ?_)
    · skip
      refine lv_iconst (v := 0) hx hb dX3_isHole_35 (by decide) ?_
      exact J36_4 _ _ _ 0 ((if_neg (fun h => (fun h => h c_5) h.2)).symm) hP hS (lv_sub hl [0, 1] rfl)
    refine lv_iconst (v := 1) hx hb dX3_isHole_31 (by decide) ?_
    refine lv_goto (tgt := 36) hx hb dX3_isHole_32 (by decide) ?_
    exact J36_4 _ _ _ 1 ((if_pos ⟨c_3, c_5⟩).symm) hP hS (lv_sub hl [0, 1] rfl)
  refine xk_ifeq (tgt := 12) hx hb dX3_isHole_5 (by decide) (fun c_1 => ?_) (fun c_1 => ?_)
  · skip
    refine lv_iconst (v := 1) hx hb dX3_isHole_12 (by decide) ?_
    exact J13_2 _ _ _ 1 ((if_pos c_1).symm) hP hS (lv_sub hl [0, 1] rfl)
  refine lv_iconst (v := 0) hx hb dX3_isHole_8 (by decide) ?_
  refine lv_goto (tgt := 13) hx hb dX3_isHole_9 (by decide) ?_
  exact J13_2 _ _ _ 0 ((if_neg (fun h => h c_1)).symm) hP hS (lv_sub hl [0, 1] rfl)
set_option maxHeartbeats 4000000 in
theorem m_holes (l : Launch) (D : xk_G) (A : Nat → Prop) (ad : Nat → Nat) (σ : Nat → Nat → Int32) (nw az ir : Nat → Int32) (n : Nat → Nat) (th : Int32) (hJ : mk_ok A ad) (h0m : n 0 ≤ 8) (h1m : n 1 ≤ 4) (h2m : n 2 ≤ 4) : Met l yX3_holes (ws_ yX3_holes cX3_holes 3 (some .int)) (xk_R 5 115) (xk_Pre D A (mP D ad σ nw az ir n th) [.ref (ad 0)]) (xk_Pi A (fun r H => r = mk_holesR σ n 256 ∧ mP D ad σ nw az ir n 0 H)) 0 0 A := by
  refine xk_startI (by decide +kernel) (Nat.le_of_ble_eq_true rfl) ?_
  intro p e s m args below meth c Q hAt hin hK hA hP hR ls hl
  obtain ⟨hx, hb, hml, hown, hts⟩ := id hAt
  have hl : lv_has ls 3 [(0, .ref (ad 0))] := hl
  have hS : va_S A s.heap s.heap [] := va_S.rf
  refine lv_aload_n hx hb dX3_holes_0 rfl (lv_at hl 0 rfl) ?_
  refine lv_iconst (v := 0) hx hb dX3_holes_1 (by decide) ?_
  refine mk_put hAt hK hJ hP hS 18 (by decide) (hts _ q808) rfl rfl (ty := .int) (by decide +kernel) rfl rfl (ad' := ad) (n' := n) (th' := 0) rfl rfl dX3_holes_2 (fun H locs hP hS => ?_)
  have hP : mP D ad σ nw az ir n 0 H := hP
  refine lv_iconst (v := 0) hx hb dX3_holes_5 (by decide) ?_
  refine lv_istore_n (lv' := [(1, .int 0), (0, .ref (ad 0))]) hx hb dX3_holes_6 rfl hl (by decide) rfl (fun ls hl => ?_)
  refine lv_iconst (v := 0) hx hb dX3_holes_7 (by decide) ?_
  refine lv_istore_n (lv' := [(2, .int 0), (1, .int 0), (0, .ref (ad 0))]) hx hb dX3_holes_8 rfl hl (by decide) rfl (fun ls hl => ?_)
  have L9 : ∀ (j i9 : Nat), 256 + 1 ≤ i9 + j → i9 ≤ 256 → ∀ (H : Heap) (locs : List Loc) (ls : Array Slot) (v1 : Int32), v1 = mk_holesR σ n i9 → mP D ad σ nw az ir n 0 H → va_S A s.heap H locs → lv_has ls 3 [(2, .int (nI i9)), (1, .int v1), (0, .ref (ad 0))] → W p l e (xk_R 5 115) s m args below meth c H locs 0 0 Q (F0 m 9 ls []) := by
    intro j
    induction j with
    | zero => intro i9 h9a h9b; exact absurd h9a (by omega)
    | succ j ih9 =>
      intro i9 h9a h9b  H locs ls v1 ev1 hP hS hl
      subst ev1
      refine lv_iload_n hx hb dX3_holes_9 rfl (lv_at hl 0 rfl) ?_
      refine lv_sipush (v := 256) hx hb dX3_holes_10 (by decide) ?_
      refine mk_ge (tgt := 38) (a := i9) (b := 256) hx hb (by omega) (by omega) dX3_holes_13 (by decide) (fun c_1 => ?_) (fun c_1 => ?_)
      · skip
        obtain rfl : i9 = 256 := by omega
        refine lv_iload_n hx hb dX3_holes_38 rfl (lv_at hl 1 rfl) ?_
        exact hR _ _ _ _ _ dX3_holes_39 (⟨rfl, hP⟩) hS
      refine lv_iload_n hx hb dX3_holes_16 rfl (lv_at hl 1 rfl) ?_
      refine lv_aload_n hx hb dX3_holes_17 rfl (lv_at hl 2 rfl) ?_
      refine lv_iload_n hx hb dX3_holes_18 rfl (lv_at hl 0 rfl) ?_
      refine mk_ciV hAt hK hP hA hS (As := [.int (nI i9)]) (rest := [.int (mk_holesR σ n i9)]) (m_isTouched l D A ad σ nw az ir n 0 hJ (by assumption) (by assumption) (by assumption) (nI i9)) (cwV 1 hts (lw_V q1020 q1022 qs33 q42 q1023) rfl rfl rfl cdX3_isTouched ⟨Nat.le_of_ble_eq_true rfl, Nat.le_of_ble_eq_true rfl⟩) rfl hl.1 rfl (Nat.le_of_ble_eq_true rfl) dX3_holes_19 ⟨Nat.le_refl _, Nat.le_refl _⟩ (fun r H locs hq hS => ?_)
      obtain ⟨rfl, hP⟩ := hq
      have J30_3 : ∀ (H : Heap) (locs : List Loc) (ls : Array Slot) (t0 : Int32), t0 = xk_b (¬ (mk_tcd σ n (nI i9) = true)) → mP D ad σ nw az ir n 0 H → va_S A s.heap H locs → lv_has ls 3 [(2, .int (nI i9)), (1, .int (mk_holesR σ n i9)), (0, .ref (ad 0))] → W p l e (xk_R 5 115) s m args below meth c H locs 0 0 Q (F0 m 30 ls [.int t0, .int (mk_holesR σ n i9)]) := by
        intro H locs ls t0 et0 hP hS hl
        subst et0
        refine lv_iadd hx hb dX3_holes_30 ?_
        refine lv_istore_n (lv' := [(1, .int ((mk_holesR σ n i9) + (xk_b (¬ (mk_tcd σ n (nI i9) = true))))), (2, .int (nI i9)), (0, .ref (ad 0))]) hx hb dX3_holes_31 rfl hl (by decide) rfl (fun ls hl => ?_)
        refine lv_iinc (v := nI (i9 + 1)) (lv' := [(2, .int (nI (i9 + 1))), (1, .int ((mk_holesR σ n i9) + (xk_b (¬ (mk_tcd σ n (nI i9) = true))))), (0, .ref (ad 0))]) hx hb dX3_holes_32 hl (k := 1) rfl (xk_inc i9) (by decide) rfl (fun ls hl => ?_)
        refine lv_goto (tgt := 9) hx hb dX3_holes_35 (by decide) ?_
        exact ih9 (i9 + 1) (by omega) (by omega)  _ _ _ ((mk_holesR σ n i9) + (xk_b (¬ (mk_tcd σ n (nI i9) = true)))) (rfl) hP hS (lv_sub hl [0, 1, 2] rfl)
      refine xk_ifeq (tgt := 29) hx hb dX3_holes_22 (by decide) (fun c_2 => ?_) (fun c_2 => ?_)
      · skip
        refine lv_iconst (v := 1) hx hb dX3_holes_29 (by decide) ?_
        exact J30_3 _ _ _ 1 ((if_pos c_2).symm) hP hS (lv_sub hl [0, 1, 2] rfl)
      refine lv_iconst (v := 0) hx hb dX3_holes_25 (by decide) ?_
      refine lv_goto (tgt := 30) hx hb dX3_holes_26 (by decide) ?_
      exact J30_3 _ _ _ 0 ((if_neg (fun h => h c_2)).symm) hP hS (lv_sub hl [0, 1, 2] rfl)
  exact L9 (256 + 1) 0 (by omega) (by omega)  _ _ _ 0 (rfl) hP hS (lv_sub hl [0, 1, 2] rfl)
set_option maxHeartbeats 4000000 in
theorem m_isOfLibrary (l : Launch) (D : xk_G) (A : Nat → Prop) (ad : Nat → Nat) (σ : Nat → Nat → Int32) (nw az ir : Nat → Int32) (n : Nat → Nat) (th : Int32) (hJ : mk_ok A ad) (h1m : n 1 ≤ 4) (h2m : n 2 ≤ 4) (x : Int32) : Met l yX3_isOfLibrary (ws_ yX3_isOfLibrary cX3_isOfLibrary 5 (some .boolean)) (xk_R 1 21) (xk_Pre D A (mP D ad σ nw az ir n th) [.ref (ad 0), .int x]) (xk_Pi A (fun r H => r = xk_b (mk_isL σ n x) ∧ mP D ad σ nw az ir n th H)) 0 0 A := by
  refine xk_startZ (by decide +kernel) (Nat.le_of_ble_eq_true rfl) (fun r H h => by rw [h.1]; exact xk_b01 _) ?_
  intro p e s m args below meth c Q hAt hin hK hA hP hR ls hl
  obtain ⟨hx, hb, hml, hown, hts⟩ := id hAt
  have hl : lv_has ls 5 [(0, .ref (ad 0)), (1, .int x)] := hl
  have hS : va_S A s.heap s.heap [] := va_S.rf
  refine lv_iconst (v := 0) hx hb dX3_isOfLibrary_0 (by decide) ?_
  refine lv_istore_n (lv' := [(2, .int 0), (0, .ref (ad 0)), (1, .int x)]) hx hb dX3_isOfLibrary_1 rfl hl (by decide) rfl (fun ls hl => ?_)
  refine lv_iconst (v := 0) hx hb dX3_isOfLibrary_2 (by decide) ?_
  refine lv_istore_n (lv' := [(3, .int 0), (2, .int 0), (0, .ref (ad 0)), (1, .int x)]) hx hb dX3_isOfLibrary_3 rfl hl (by decide) rfl (fun ls hl => ?_)
  refine lv_iconst (v := 0) hx hb dX3_isOfLibrary_4 (by decide) ?_
  refine lv_istore (lv' := [(4, .int 0), (3, .int 0), (2, .int 0), (0, .ref (ad 0)), (1, .int x)]) hx hb dX3_isOfLibrary_5 hl (by decide) rfl (fun ls hl => ?_)
  have L7 : ∀ (j i7 : Nat), n 1 + 1 ≤ i7 + j → i7 ≤ n 1 → ∀ (H : Heap) (locs : List Loc) (ls : Array Slot) (v2 : Int32), v2 = mk_lib1 σ x i7 → mP D ad σ nw az ir n th H → va_S A s.heap H locs → lv_has ls 5 [(4, .int (nI i7)), (3, .int 0), (2, .int v2), (0, .ref (ad 0)), (1, .int x)] → W p l e (xk_R 1 21) s m args below meth c H locs 0 0 Q (F0 m 7 ls []) := by
    intro j
    induction j with
    | zero => intro i7 h7a h7b; exact absurd h7a (by omega)
    | succ j ih7 =>
      intro i7 h7a h7b  H locs ls v2 ev2 hP hS hl
      subst ev2
      refine lv_iload hx hb dX3_isOfLibrary_7 (lv_at hl 0 rfl) ?_
      refine lv_aload_n hx hb dX3_isOfLibrary_9 rfl (lv_at hl 3 rfl) ?_
      refine mk_get hAt hK hP 4 (by decide) (v := .int (nI (n 1))) rfl (hts _ q794) rfl dX3_isOfLibrary_10 ?_
      refine mk_ge (tgt := 62) (a := i7) (b := n 1) hx hb (by omega) (by omega) dX3_isOfLibrary_13 (by decide) (fun c_1 => ?_) (fun c_1 => ?_)
      · skip
        obtain rfl : i7 = n 1 := by omega
        refine lv_iconst (v := 0) hx hb dX3_isOfLibrary_62 (by decide) ?_
        refine lv_istore (lv' := [(4, .int 0), (3, .int 0), (2, .int (mk_lib1 σ x (n 1))), (0, .ref (ad 0)), (1, .int x)]) hx hb dX3_isOfLibrary_63 hl (by decide) rfl (fun ls hl => ?_)
        have L65 : ∀ (j i65 : Nat), n 2 + 1 ≤ i65 + j → i65 ≤ n 2 → ∀ (H : Heap) (locs : List Loc) (ls : Array Slot) (v3 : Int32), v3 = mk_lib2 σ x i65 → mP D ad σ nw az ir n th H → va_S A s.heap H locs → lv_has ls 5 [(4, .int (nI i65)), (3, .int v3), (2, .int (mk_lib1 σ x (n 1))), (0, .ref (ad 0)), (1, .int x)] → W p l e (xk_R 1 21) s m args below meth c H locs 0 0 Q (F0 m 65 ls []) := by
          intro j
          induction j with
          | zero => intro i65 h65a h65b; exact absurd h65a (by omega)
          | succ j ih65 =>
            intro i65 h65a h65b  H locs ls v3 ev3 hP hS hl
            subst ev3
            refine lv_iload hx hb dX3_isOfLibrary_65 (lv_at hl 0 rfl) ?_
            refine lv_aload_n hx hb dX3_isOfLibrary_67 rfl (lv_at hl 3 rfl) ?_
            refine mk_get hAt hK hP 7 (by decide) (v := .int (nI (n 2))) rfl (hts _ q797) rfl dX3_isOfLibrary_68 ?_
            refine mk_ge (tgt := 105) (a := i65) (b := n 2) hx hb (by omega) (by omega) dX3_isOfLibrary_71 (by decide) (fun c_2 => ?_) (fun c_2 => ?_)
            · skip
              obtain rfl : i65 = n 2 := by omega
              refine lv_iload_n hx hb dX3_isOfLibrary_105 rfl (lv_at hl 2 rfl) ?_
              have J118_4 : ∀ (H : Heap) (locs : List Loc) (ls : Array Slot) (t0 : Int32), t0 = xk_b (¬ (mk_lib1 σ x (n 1) = 0) ∧ ¬ (mk_lib2 σ x (n 2) = 0)) → mP D ad σ nw az ir n th H → va_S A s.heap H locs → lv_has ls 5 [(4, .int (nI (n 2))), (3, .int (mk_lib2 σ x (n 2))), (2, .int (mk_lib1 σ x (n 1))), (0, .ref (ad 0)), (1, .int x)] → W p l e (xk_R 1 21) s m args below meth c H locs 0 0 Q (F0 m 118 ls [.int t0]) := by
                intro H locs ls t0 et0 hP hS hl
                subst et0
                exact hR _ _ _ _ _ dX3_isOfLibrary_118 (⟨rfl, hP⟩) hS
              refine lv_if_eq (tgt := 117) hx hb dX3_isOfLibrary_106 (by decide) (fun c_3 => ?_) (fun c_3 => ?_)
              · skip
                refine lv_iconst (v := 0) hx hb dX3_isOfLibrary_117 (by decide) ?_
                exact J118_4 _ _ _ 0 ((if_neg (fun h => h.1 c_3)).symm) hP hS (lv_sub hl [0, 1, 2, 3, 4] rfl)
              refine lv_iload_n hx hb dX3_isOfLibrary_109 rfl (lv_at hl 1 rfl) ?_
              refine lv_if_eq (tgt := 117) hx hb dX3_isOfLibrary_110 (by decide) (fun c_5 => ?_) (fun c_5 => ?_)
              · skip
                refine lv_iconst (v := 0) hx hb dX3_isOfLibrary_117 (by decide) ?_
                exact J118_4 _ _ _ 0 ((if_neg (fun h => (fun h => h c_5) h.2)).symm) hP hS (lv_sub hl [0, 1, 2, 3, 4] rfl)
              refine lv_iconst (v := 1) hx hb dX3_isOfLibrary_113 (by decide) ?_
              refine lv_goto (tgt := 118) hx hb dX3_isOfLibrary_114 (by decide) ?_
              exact J118_4 _ _ _ 1 ((if_pos ⟨c_3, c_5⟩).symm) hP hS (lv_sub hl [0, 1, 2, 3, 4] rfl)
            refine lv_iload_n hx hb dX3_isOfLibrary_74 rfl (lv_at hl 1 rfl) ?_
            have J98_7 : ∀ (H : Heap) (locs : List Loc) (ls : Array Slot) (t0 : Int32), t0 = xk_b (¬ (mk_lib2 σ x i65 = 0) ∨ σ 5 i65 = nI (mk_ln x 2)) → mP D ad σ nw az ir n th H → va_S A s.heap H locs → lv_has ls 5 [(4, .int (nI i65)), (3, .int (mk_lib2 σ x i65)), (2, .int (mk_lib1 σ x (n 1))), (0, .ref (ad 0)), (1, .int x)] → W p l e (xk_R 1 21) s m args below meth c H locs 0 0 Q (F0 m 98 ls [.int t0]) := by
              intro H locs ls t0 et0 hP hS hl
              subst et0
              refine lv_istore_n (lv' := [(3, .int (xk_b (¬ (mk_lib2 σ x i65 = 0) ∨ σ 5 i65 = nI (mk_ln x 2)))), (4, .int (nI i65)), (2, .int (mk_lib1 σ x (n 1))), (0, .ref (ad 0)), (1, .int x)]) hx hb dX3_isOfLibrary_98 rfl hl (by decide) rfl (fun ls hl => ?_)
              refine lv_iinc (v := nI (i65 + 1)) (lv' := [(4, .int (nI (i65 + 1))), (3, .int (xk_b (¬ (mk_lib2 σ x i65 = 0) ∨ σ 5 i65 = nI (mk_ln x 2)))), (2, .int (mk_lib1 σ x (n 1))), (0, .ref (ad 0)), (1, .int x)]) hx hb dX3_isOfLibrary_99 hl (k := 1) rfl (xk_inc i65) (by decide) rfl (fun ls hl => ?_)
              refine lv_goto (tgt := 65) hx hb dX3_isOfLibrary_102 (by decide) ?_
              exact ih65 (i65 + 1) (by omega) (by omega)  _ _ _ (xk_b (¬ (mk_lib2 σ x i65 = 0) ∨ σ 5 i65 = nI (mk_ln x 2))) (rfl) hP hS (lv_sub hl [0, 1, 2, 3, 4] rfl)
            refine lv_if_ne (tgt := 93) hx hb dX3_isOfLibrary_75 (by decide) (fun c_6 => ?_) (fun c_6 => ?_)
            · skip
              refine lv_iconst (v := 1) hx hb dX3_isOfLibrary_93 (by decide) ?_
              refine lv_goto (tgt := 98) hx hb dX3_isOfLibrary_94 (by decide) ?_
              exact J98_7 _ _ _ 1 ((if_pos (Or.inl c_6)).symm) hP hS (lv_sub hl [0, 1, 2, 3, 4] rfl)
            refine lv_aload_n hx hb dX3_isOfLibrary_78 rfl (lv_at hl 3 rfl) ?_
            refine mk_get hAt hK hP 8 (by decide) (v := .ref (ad 6)) rfl (hts _ q798) rfl dX3_isOfLibrary_79 ?_
            refine lv_iload hx hb dX3_isOfLibrary_82 (lv_at hl 0 rfl) ?_
            refine mk_iald hAt hK hP 6 (f := σ 5) rfl i65 (by omega) (by decide) dX3_isOfLibrary_84 ?_
            refine lv_iload_n hx hb dX3_isOfLibrary_85 rfl (lv_at hl 4 rfl) ?_
            refine lv_iconst (v := 2) hx hb dX3_isOfLibrary_86 (by decide) ?_
            refine mk_ciS hAt hK (P := mP D ad σ nw az ir n th) hP hA hS (As := [.int x, .int 2]) (rest := [.int (σ 5 i65)]) (m_letter l D A (mP D ad σ nw az ir n th) x 2) (va_cwS 2 hts (lw_S q877 q878 q42 q879) rfl rfl rfl cdX3_letter ⟨Nat.le_of_ble_eq_true rfl, Nat.le_of_ble_eq_true rfl⟩) rfl hl.1 rfl (Nat.le_of_ble_eq_true rfl) dX3_isOfLibrary_87 ⟨Nat.le_refl _, Nat.le_refl _⟩ (fun r H locs hq hS => ?_)
            obtain ⟨rfl, hP⟩ := hq
            refine lv_icmp_ne (tgt := 97) hx hb dX3_isOfLibrary_90 (by decide) (fun c_8 => ?_) (fun c_8 => ?_)
            · skip
              refine lv_iconst (v := 0) hx hb dX3_isOfLibrary_97 (by decide) ?_
              exact J98_7 _ _ _ 0 ((if_neg (fun h => h.elim (fun z => z c_6) (fun z => c_8 z))).symm) hP hS (lv_sub hl [0, 1, 2, 3, 4] rfl)
            refine lv_iconst (v := 1) hx hb dX3_isOfLibrary_93 (by decide) ?_
            refine lv_goto (tgt := 98) hx hb dX3_isOfLibrary_94 (by decide) ?_
            exact J98_7 _ _ _ 1 ((if_pos (Or.inr c_8)).symm) hP hS (lv_sub hl [0, 1, 2, 3, 4] rfl)
        exact L65 (n 2 + 1) 0 (by omega) (by omega)  _ _ _ 0 (rfl) hP hS (lv_sub hl [0, 1, 2, 3, 4] rfl)
      refine lv_iload_n hx hb dX3_isOfLibrary_16 rfl (lv_at hl 2 rfl) ?_
      have J55_10 : ∀ (H : Heap) (locs : List Loc) (ls : Array Slot) (t0 : Int32), t0 = xk_b (¬ (mk_lib1 σ x i7 = 0) ∨ (σ 3 i7 = nI (mk_ln x 0) ∧ σ 4 i7 = nI (mk_ln x 1))) → mP D ad σ nw az ir n th H → va_S A s.heap H locs → lv_has ls 5 [(4, .int (nI i7)), (3, .int 0), (2, .int (mk_lib1 σ x i7)), (0, .ref (ad 0)), (1, .int x)] → W p l e (xk_R 1 21) s m args below meth c H locs 0 0 Q (F0 m 55 ls [.int t0]) := by
        intro H locs ls t0 et0 hP hS hl
        subst et0
        refine lv_istore_n (lv' := [(2, .int (xk_b (¬ (mk_lib1 σ x i7 = 0) ∨ (σ 3 i7 = nI (mk_ln x 0) ∧ σ 4 i7 = nI (mk_ln x 1))))), (4, .int (nI i7)), (3, .int 0), (0, .ref (ad 0)), (1, .int x)]) hx hb dX3_isOfLibrary_55 rfl hl (by decide) rfl (fun ls hl => ?_)
        refine lv_iinc (v := nI (i7 + 1)) (lv' := [(4, .int (nI (i7 + 1))), (2, .int (xk_b (¬ (mk_lib1 σ x i7 = 0) ∨ (σ 3 i7 = nI (mk_ln x 0) ∧ σ 4 i7 = nI (mk_ln x 1))))), (3, .int 0), (0, .ref (ad 0)), (1, .int x)]) hx hb dX3_isOfLibrary_56 hl (k := 1) rfl (xk_inc i7) (by decide) rfl (fun ls hl => ?_)
        refine lv_goto (tgt := 7) hx hb dX3_isOfLibrary_59 (by decide) ?_
        exact ih7 (i7 + 1) (by omega) (by omega)  _ _ _ (xk_b (¬ (mk_lib1 σ x i7 = 0) ∨ (σ 3 i7 = nI (mk_ln x 0) ∧ σ 4 i7 = nI (mk_ln x 1)))) (rfl) hP hS (lv_sub hl [0, 2, 1, 3, 4] rfl)
      refine lv_if_ne (tgt := 50) hx hb dX3_isOfLibrary_17 (by decide) (fun c_9 => ?_) (fun c_9 => ?_)
      · skip
        refine lv_iconst (v := 1) hx hb dX3_isOfLibrary_50 (by decide) ?_
        refine lv_goto (tgt := 55) hx hb dX3_isOfLibrary_51 (by decide) ?_
        exact J55_10 _ _ _ 1 ((if_pos (Or.inl c_9)).symm) hP hS (lv_sub hl [0, 1, 2, 3, 4] rfl)
      refine lv_aload_n hx hb dX3_isOfLibrary_20 rfl (lv_at hl 3 rfl) ?_
      refine mk_get hAt hK hP 5 (by decide) (v := .ref (ad 4)) rfl (hts _ q795) rfl dX3_isOfLibrary_21 ?_
      refine lv_iload hx hb dX3_isOfLibrary_24 (lv_at hl 0 rfl) ?_
      refine mk_iald hAt hK hP 4 (f := σ 3) rfl i7 (by omega) (by decide) dX3_isOfLibrary_26 ?_
      refine lv_iload_n hx hb dX3_isOfLibrary_27 rfl (lv_at hl 4 rfl) ?_
      refine lv_iconst (v := 0) hx hb dX3_isOfLibrary_28 (by decide) ?_
      refine mk_ciS hAt hK (P := mP D ad σ nw az ir n th) hP hA hS (As := [.int x, .int 0]) (rest := [.int (σ 3 i7)]) (m_letter l D A (mP D ad σ nw az ir n th) x 0) (va_cwS 2 hts (lw_S q877 q878 q42 q879) rfl rfl rfl cdX3_letter ⟨Nat.le_of_ble_eq_true rfl, Nat.le_of_ble_eq_true rfl⟩) rfl hl.1 rfl (Nat.le_of_ble_eq_true rfl) dX3_isOfLibrary_29 ⟨Nat.le_refl _, Nat.le_refl _⟩ (fun r H locs hq hS => ?_)
      obtain ⟨rfl, hP⟩ := hq
      refine lv_icmp_ne (tgt := 54) hx hb dX3_isOfLibrary_32 (by decide) (fun c_11 => ?_) (fun c_11 => ?_)
      · skip
        refine lv_iconst (v := 0) hx hb dX3_isOfLibrary_54 (by decide) ?_
        exact J55_10 _ _ _ 0 ((if_neg (fun h => h.elim (fun z => z c_9) (fun z => (fun h => c_11 h.1) z))).symm) hP hS (lv_sub hl [0, 1, 2, 3, 4] rfl)
      refine lv_aload_n hx hb dX3_isOfLibrary_35 rfl (lv_at hl 3 rfl) ?_
      refine mk_get hAt hK hP 6 (by decide) (v := .ref (ad 5)) rfl (hts _ q796) rfl dX3_isOfLibrary_36 ?_
      refine lv_iload hx hb dX3_isOfLibrary_39 (lv_at hl 0 rfl) ?_
      refine mk_iald hAt hK hP 5 (f := σ 4) rfl i7 (by omega) (by decide) dX3_isOfLibrary_41 ?_
      refine lv_iload_n hx hb dX3_isOfLibrary_42 rfl (lv_at hl 4 rfl) ?_
      refine lv_iconst (v := 1) hx hb dX3_isOfLibrary_43 (by decide) ?_
      refine mk_ciS hAt hK (P := mP D ad σ nw az ir n th) hP hA hS (As := [.int x, .int 1]) (rest := [.int (σ 4 i7)]) (m_letter l D A (mP D ad σ nw az ir n th) x 1) (va_cwS 2 hts (lw_S q877 q878 q42 q879) rfl rfl rfl cdX3_letter ⟨Nat.le_of_ble_eq_true rfl, Nat.le_of_ble_eq_true rfl⟩) rfl hl.1 rfl (Nat.le_of_ble_eq_true rfl) dX3_isOfLibrary_44 ⟨Nat.le_refl _, Nat.le_refl _⟩ (fun r H locs hq hS => ?_)
      obtain ⟨rfl, hP⟩ := hq
      refine lv_icmp_ne (tgt := 54) hx hb dX3_isOfLibrary_47 (by decide) (fun c_12 => ?_) (fun c_12 => ?_)
      · skip
        refine lv_iconst (v := 0) hx hb dX3_isOfLibrary_54 (by decide) ?_
        exact J55_10 _ _ _ 0 ((if_neg (fun h => h.elim (fun z => z c_9) (fun z => (fun h => c_12 h.2) z))).symm) hP hS (lv_sub hl [0, 1, 2, 3, 4] rfl)
      refine lv_iconst (v := 1) hx hb dX3_isOfLibrary_50 (by decide) ?_
      refine lv_goto (tgt := 55) hx hb dX3_isOfLibrary_51 (by decide) ?_
      exact J55_10 _ _ _ 1 ((if_pos (Or.inr ⟨c_11, c_12⟩)).symm) hP hS (lv_sub hl [0, 1, 2, 3, 4] rfl)
  exact L7 (n 1 + 1) 0 (by omega) (by omega)  _ _ _ 0 (rfl) hP hS (lv_sub hl [0, 1, 2, 3, 4] rfl)
set_option maxHeartbeats 4000000 in
theorem m_holesAnew (l : Launch) (D : xk_G) (A : Nat → Prop) (ad : Nat → Nat) (σ : Nat → Nat → Int32) (nw az ir : Nat → Int32) (n : Nat → Nat) (th : Int32) (hJ : mk_ok A ad) (h0m : n 0 ≤ 8) (h1m : n 1 ≤ 4) (h2m : n 2 ≤ 4) : Met l yX3_holesAnew (ws_ yX3_holesAnew cX3_holesAnew 4 (some .int)) (xk_R 4 91) (xk_Pre D A (mP D ad σ nw az ir n th) [.ref (ad 0)]) (xk_Pi A (fun r H => r = mk_cntR (mk_anew σ n ir) 256 ∧ mP D ad σ nw az (mk_anew σ n ir) n 0 H)) 0 0 A := by
  refine xk_startI (by decide +kernel) (Nat.le_of_ble_eq_true rfl) ?_
  intro p e s m args below meth c Q hAt hin hK hA hP hR ls hl
  obtain ⟨hx, hb, hml, hown, hts⟩ := id hAt
  have hl : lv_has ls 4 [(0, .ref (ad 0))] := hl
  have hS : va_S A s.heap s.heap [] := va_S.rf
  refine lv_aload_n hx hb dX3_holesAnew_0 rfl (lv_at hl 0 rfl) ?_
  refine lv_iconst (v := 0) hx hb dX3_holesAnew_1 (by decide) ?_
  refine mk_put hAt hK hJ hP hS 18 (by decide) (hts _ q808) rfl rfl (ty := .int) (by decide +kernel) rfl rfl (ad' := ad) (n' := n) (th' := 0) rfl rfl dX3_holesAnew_2 (fun H locs hP hS => ?_)
  have hP : mP D ad σ nw az ir n 0 H := hP
  refine lv_iconst (v := 0) hx hb dX3_holesAnew_5 (by decide) ?_
  refine lv_istore_n (lv' := [(1, .int 0), (0, .ref (ad 0))]) hx hb dX3_holesAnew_6 rfl hl (by decide) rfl (fun ls hl => ?_)
  have L7 : ∀ (j i7 : Nat), 256 + 1 ≤ i7 + j → i7 ≤ 256 → ∀ (H : Heap) (locs : List Loc) (ls : Array Slot) (zir : Nat → Int32), zir = mk_clrR ir i7 → mP D ad σ nw az zir n 0 H → va_S A s.heap H locs → lv_has ls 4 [(1, .int (nI i7)), (0, .ref (ad 0))] → W p l e (xk_R 4 91) s m args below meth c H locs 0 0 Q (F0 m 7 ls []) := by
    intro j
    induction j with
    | zero => intro i7 h7a h7b; exact absurd h7a (by omega)
    | succ j ih7 =>
      intro i7 h7a h7b  H locs ls zir ezir hP hS hl
      subst ezir
      refine lv_iload_n hx hb dX3_holesAnew_7 rfl (lv_at hl 0 rfl) ?_
      refine lv_sipush (v := 256) hx hb dX3_holesAnew_8 (by decide) ?_
      refine mk_ge (tgt := 27) (a := i7) (b := 256) hx hb (by omega) (by omega) dX3_holesAnew_11 (by decide) (fun c_1 => ?_) (fun c_1 => ?_)
      · skip
        obtain rfl : i7 = 256 := by omega
        refine lv_iconst (v := 0) hx hb dX3_holesAnew_27 (by decide) ?_
        refine lv_istore_n (lv' := [(1, .int 0), (0, .ref (ad 0))]) hx hb dX3_holesAnew_28 rfl hl (by decide) rfl (fun ls hl => ?_)
        have L29 : ∀ (j i29 : Nat), 256 + 1 ≤ i29 + j → i29 ≤ 256 → ∀ (H : Heap) (locs : List Loc) (ls : Array Slot) (zir : Nat → Int32), zir = mk_rchW σ n (mk_clrR ir 256) i29 → mP D ad σ nw az zir n 0 H → va_S A s.heap H locs → lv_has ls 4 [(1, .int (nI i29)), (0, .ref (ad 0))] → W p l e (xk_R 4 91) s m args below meth c H locs 0 0 Q (F0 m 29 ls []) := by
          intro j
          induction j with
          | zero => intro i29 h29a h29b; exact absurd h29a (by omega)
          | succ j ih29 =>
            intro i29 h29a h29b  H locs ls zir ezir hP hS hl
            subst ezir
            refine lv_iload_n hx hb dX3_holesAnew_29 rfl (lv_at hl 0 rfl) ?_
            refine lv_sipush (v := 256) hx hb dX3_holesAnew_30 (by decide) ?_
            refine mk_ge (tgt := 112) (a := i29) (b := 256) hx hb (by omega) (by omega) dX3_holesAnew_33 (by decide) (fun c_2 => ?_) (fun c_2 => ?_)
            · skip
              obtain rfl : i29 = 256 := by omega
              have hP : mP D ad σ nw az (mk_anew σ n ir) n 0 H := hP
              refine lv_iconst (v := 0) hx hb dX3_holesAnew_112 (by decide) ?_
              refine lv_istore_n (lv' := [(1, .int 0), (0, .ref (ad 0))]) hx hb dX3_holesAnew_113 rfl hl (by decide) rfl (fun ls hl => ?_)
              refine lv_iconst (v := 0) hx hb dX3_holesAnew_114 (by decide) ?_
              refine lv_istore_n (lv' := [(2, .int 0), (1, .int 0), (0, .ref (ad 0))]) hx hb dX3_holesAnew_115 rfl hl (by decide) rfl (fun ls hl => ?_)
              have L116 : ∀ (j i116 : Nat), 256 + 1 ≤ i116 + j → i116 ≤ 256 → ∀ (H : Heap) (locs : List Loc) (ls : Array Slot) (v1 : Int32), v1 = mk_cntR (mk_anew σ n ir) i116 → mP D ad σ nw az (mk_anew σ n ir) n 0 H → va_S A s.heap H locs → lv_has ls 4 [(2, .int (nI i116)), (1, .int v1), (0, .ref (ad 0))] → W p l e (xk_R 4 91) s m args below meth c H locs 0 0 Q (F0 m 116 ls []) := by
                intro j
                induction j with
                | zero => intro i116 h116a h116b; exact absurd h116a (by omega)
                | succ j ih116 =>
                  intro i116 h116a h116b  H locs ls v1 ev1 hP hS hl
                  subst ev1
                  refine lv_iload_n hx hb dX3_holesAnew_116 rfl (lv_at hl 0 rfl) ?_
                  refine lv_sipush (v := 256) hx hb dX3_holesAnew_117 (by decide) ?_
                  refine mk_ge (tgt := 146) (a := i116) (b := 256) hx hb (by omega) (by omega) dX3_holesAnew_120 (by decide) (fun c_3 => ?_) (fun c_3 => ?_)
                  · skip
                    obtain rfl : i116 = 256 := by omega
                    refine lv_iload_n hx hb dX3_holesAnew_146 rfl (lv_at hl 1 rfl) ?_
                    exact hR _ _ _ _ _ dX3_holesAnew_147 (⟨rfl, hP⟩) hS
                  refine lv_iload_n hx hb dX3_holesAnew_123 rfl (lv_at hl 1 rfl) ?_
                  refine lv_aload_n hx hb dX3_holesAnew_124 rfl (lv_at hl 2 rfl) ?_
                  refine mk_get hAt hK hP 19 (by decide) (v := .ref (ad 14)) rfl (hts _ q809) rfl dX3_holesAnew_125 ?_
                  refine lv_iload_n hx hb dX3_holesAnew_128 rfl (lv_at hl 0 rfl) ?_
                  refine mk_zald hAt hK hP i116 (by omega) dX3_holesAnew_129 ?_
                  have J138_5 : ∀ (H : Heap) (locs : List Loc) (ls : Array Slot) (t0 : Int32), t0 = xk_b ((mk_anew σ n ir) i116 = 0) → mP D ad σ nw az (mk_anew σ n ir) n 0 H → va_S A s.heap H locs → lv_has ls 4 [(2, .int (nI i116)), (1, .int (mk_cntR (mk_anew σ n ir) i116)), (0, .ref (ad 0))] → W p l e (xk_R 4 91) s m args below meth c H locs 0 0 Q (F0 m 138 ls [.int t0, .int (mk_cntR (mk_anew σ n ir) i116)]) := by
                    intro H locs ls t0 et0 hP hS hl
                    subst et0
                    refine lv_iadd hx hb dX3_holesAnew_138 ?_
                    refine lv_istore_n (lv' := [(1, .int ((mk_cntR (mk_anew σ n ir) i116) + (xk_b ((mk_anew σ n ir) i116 = 0)))), (2, .int (nI i116)), (0, .ref (ad 0))]) hx hb dX3_holesAnew_139 rfl hl (by decide) rfl (fun ls hl => ?_)
                    refine lv_iinc (v := nI (i116 + 1)) (lv' := [(2, .int (nI (i116 + 1))), (1, .int ((mk_cntR (mk_anew σ n ir) i116) + (xk_b ((mk_anew σ n ir) i116 = 0)))), (0, .ref (ad 0))]) hx hb dX3_holesAnew_140 hl (k := 1) rfl (xk_inc i116) (by decide) rfl (fun ls hl => ?_)
                    refine lv_goto (tgt := 116) hx hb dX3_holesAnew_143 (by decide) ?_
                    exact ih116 (i116 + 1) (by omega) (by omega)  _ _ _ ((mk_cntR (mk_anew σ n ir) i116) + (xk_b ((mk_anew σ n ir) i116 = 0))) (rfl) hP hS (lv_sub hl [0, 1, 2] rfl)
                  refine lv_if_eq (tgt := 137) hx hb dX3_holesAnew_130 (by decide) (fun c_4 => ?_) (fun c_4 => ?_)
                  · skip
                    refine lv_iconst (v := 1) hx hb dX3_holesAnew_137 (by decide) ?_
                    exact J138_5 _ _ _ 1 ((if_pos c_4).symm) hP hS (lv_sub hl [0, 1, 2] rfl)
                  refine lv_iconst (v := 0) hx hb dX3_holesAnew_133 (by decide) ?_
                  refine lv_goto (tgt := 138) hx hb dX3_holesAnew_134 (by decide) ?_
                  exact J138_5 _ _ _ 0 ((if_neg c_4).symm) hP hS (lv_sub hl [0, 1, 2] rfl)
              exact L116 (256 + 1) 0 (by omega) (by omega)  _ _ _ 0 (rfl) hP hS (lv_sub hl [0, 1, 2] rfl)
            refine lv_aload_n hx hb dX3_holesAnew_36 rfl (lv_at hl 1 rfl) ?_
            refine lv_iload_n hx hb dX3_holesAnew_37 rfl (lv_at hl 0 rfl) ?_
            refine mk_ciV hAt hK hP hA hS (As := [.int (nI i29)]) (rest := []) (m_isOfLibrary l D A ad σ nw az (mk_rchW σ n (mk_clrR ir 256) i29) n 0 hJ (by assumption) (by assumption) (nI i29)) (cwV 1 hts (lw_V q1036 q1038 qs35 q42 q1039) rfl rfl rfl cdX3_isOfLibrary ⟨Nat.le_of_ble_eq_true rfl, Nat.le_of_ble_eq_true rfl⟩) rfl hl.1 rfl (Nat.le_of_ble_eq_true rfl) dX3_holesAnew_38 ⟨Nat.le_refl _, Nat.le_refl _⟩ (fun r H locs hq hS => ?_)
            obtain ⟨rfl, hP⟩ := hq
            have J57_7 : ∀ (H : Heap) (locs : List Loc) (ls : Array Slot) (t0 : Int32), t0 = xk_b (mk_isL σ n (nI i29) ∧ mk_lets σ n (nI i29)) → mP D ad σ nw az (mk_rchW σ n (mk_clrR ir 256) i29) n 0 H → va_S A s.heap H locs → lv_has ls 4 [(1, .int (nI i29)), (0, .ref (ad 0))] → W p l e (xk_R 4 91) s m args below meth c H locs 0 0 Q (F0 m 57 ls [.int t0]) := by
              intro H locs ls t0 et0 hP hS hl
              subst et0
              refine lv_istore_n (lv' := [(2, .int (xk_b (mk_isL σ n (nI i29) ∧ mk_lets σ n (nI i29)))), (1, .int (nI i29)), (0, .ref (ad 0))]) hx hb dX3_holesAnew_57 rfl hl (by decide) rfl (fun ls hl => ?_)
              have hl : lv_has ls 4 [(2, .int (xk_b (mk_isA σ n (nI i29)))), (1, .int (nI i29)), (0, .ref (ad 0))] := hl
              refine lv_iconst (v := 0) hx hb dX3_holesAnew_58 (by decide) ?_
              refine lv_istore_n (lv' := [(3, .int 0), (2, .int (xk_b (mk_isA σ n (nI i29)))), (1, .int (nI i29)), (0, .ref (ad 0))]) hx hb dX3_holesAnew_59 rfl hl (by decide) rfl (fun ls hl => ?_)
              have L60 : ∀ (j i60 : Nat), 256 + 1 ≤ i60 + j → i60 ≤ 256 → (i60 = 0 ∨ mk_isA σ n (nI i29)) → ∀ (H : Heap) (locs : List Loc) (ls : Array Slot) (zir : Nat → Int32), zir = mk_rchR σ (nI i29) (mk_rchW σ n (mk_clrR ir 256) i29) i60 → mP D ad σ nw az zir n 0 H → va_S A s.heap H locs → lv_has ls 4 [(3, .int (nI i60)), (2, .int (xk_b (mk_isA σ n (nI i29)))), (1, .int (nI i29)), (0, .ref (ad 0))] → W p l e (xk_R 4 91) s m args below meth c H locs 0 0 Q (F0 m 60 ls []) := by
                intro j
                induction j with
                | zero => intro i60 h60a h60b; exact absurd h60a (by omega)
                | succ j ih60 =>
                  intro i60 h60a h60b hi60_0 H locs ls zir ezir hP hS hl
                  subst ezir
                  refine lv_iload_n hx hb dX3_holesAnew_60 rfl (lv_at hl 0 rfl) ?_
                  refine lv_sipush (v := 256) hx hb dX3_holesAnew_61 (by decide) ?_
                  have J106_9 : ∀ (H : Heap) (locs : List Loc) (ls : Array Slot) (zir : Nat → Int32), zir = mk_rch1 σ n (nI i29) (mk_rchW σ n (mk_clrR ir 256) i29) → mP D ad σ nw az zir n 0 H → va_S A s.heap H locs → lv_has ls 4 [(3, .int (nI i60)), (2, .int (xk_b (mk_isA σ n (nI i29)))), (1, .int (nI i29)), (0, .ref (ad 0))] → W p l e (xk_R 4 91) s m args below meth c H locs 0 0 Q (F0 m 106 ls []) := by
                    intro H locs ls zir ezir hP hS hl
                    subst ezir
                    refine lv_iinc (v := nI (i29 + 1)) (lv' := [(1, .int (nI (i29 + 1))), (3, .int (nI i60)), (2, .int (xk_b (mk_isA σ n (nI i29)))), (0, .ref (ad 0))]) hx hb dX3_holesAnew_106 hl (k := 2) rfl (xk_inc i29) (by decide) rfl (fun ls hl => ?_)
                    refine lv_goto (tgt := 29) hx hb dX3_holesAnew_109 (by decide) ?_
                    exact ih29 (i29 + 1) (by omega) (by omega)  _ _ _ (mk_rch1 σ n (nI i29) (mk_rchW σ n (mk_clrR ir 256) i29)) (rfl) hP hS (lv_sub hl [0, 3] rfl)
                  refine mk_ge (tgt := 106) (a := i60) (b := 256) hx hb (by omega) (by omega) dX3_holesAnew_64 (by decide) (fun c_8 => ?_) (fun c_8 => ?_)
                  · skip
                    exact J106_9 _ _ _ (mk_rchR σ (nI i29) (mk_rchW σ n (mk_clrR ir 256) i29) i60) (mk_rch_of1 c_8 h60b hi60_0) hP hS (lv_sub hl [0, 1, 2, 3] rfl)
                  refine lv_iload_n hx hb dX3_holesAnew_67 rfl (lv_at hl 1 rfl) ?_
                  refine xk_ifeq (tgt := 106) hx hb dX3_holesAnew_68 (by decide) (fun c_10 => ?_) (fun c_10 => ?_)
                  · skip
                    exact J106_9 _ _ _ (mk_rchR σ (nI i29) (mk_rchW σ n (mk_clrR ir 256) i29) i60) (mk_rch_of2 c_10 hi60_0) hP hS (lv_sub hl [0, 1, 2, 3] rfl)
                  refine lv_aload_n hx hb dX3_holesAnew_71 rfl (lv_at hl 3 rfl) ?_
                  refine mk_get hAt hK hP 19 (by decide) (v := .ref (ad 14)) rfl (hts _ q809) rfl dX3_holesAnew_72 ?_
                  refine lv_iload_n hx hb dX3_holesAnew_75 rfl (lv_at hl 0 rfl) ?_
                  refine lv_aload_n hx hb dX3_holesAnew_76 rfl (lv_at hl 3 rfl) ?_
                  refine mk_get hAt hK hP 19 (by decide) (v := .ref (ad 14)) rfl (hts _ q809) rfl dX3_holesAnew_77 ?_
                  refine lv_iload_n hx hb dX3_holesAnew_80 rfl (lv_at hl 0 rfl) ?_
                  refine mk_zald hAt hK hP i60 (by omega) dX3_holesAnew_81 ?_
                  have J99_12 : ∀ (H : Heap) (locs : List Loc) (ls : Array Slot) (t0 : Int32), t0 = xk_b (¬ ((mk_rchR σ (nI i29) (mk_rchW σ n (mk_clrR ir 256) i29) i60) i60 = 0) ∨ mk_tch σ (nI i29) (nI i60)) → mP D ad σ nw az (mk_rchR σ (nI i29) (mk_rchW σ n (mk_clrR ir 256) i29) i60) n 0 H → va_S A s.heap H locs → lv_has ls 4 [(3, .int (nI i60)), (2, .int (xk_b (mk_isA σ n (nI i29)))), (1, .int (nI i29)), (0, .ref (ad 0))] → W p l e (xk_R 4 91) s m args below meth c H locs 0 0 Q (F0 m 99 ls [.int t0, .int (nI i60), .ref (ad 14)]) := by
                    intro H locs ls t0 et0 hP hS hl
                    subst et0
                    refine mk_zast hAt hK hJ hP hS i60 (by omega) (ir' := upd (mk_rchR σ (nI i29) (mk_rchW σ n (mk_clrR ir 256) i29) i60) i60 (xk_b (¬ ((mk_rchR σ (nI i29) (mk_rchW σ n (mk_clrR ir 256) i29) i60) i60 = 0) ∨ mk_tch σ (nI i29) (nI i60)))) (xk_narb _) rfl dX3_holesAnew_99 (fun H locs hP hS => ?_)
                    refine lv_iinc (v := nI (i60 + 1)) (lv' := [(3, .int (nI (i60 + 1))), (2, .int (xk_b (mk_isA σ n (nI i29)))), (1, .int (nI i29)), (0, .ref (ad 0))]) hx hb dX3_holesAnew_100 hl (k := 0) rfl (xk_inc i60) (by decide) rfl (fun ls hl => ?_)
                    refine lv_goto (tgt := 60) hx hb dX3_holesAnew_103 (by decide) ?_
                    exact ih60 (i60 + 1) (by omega) (by omega) (Or.inr c_10) _ _ _ (upd (mk_rchR σ (nI i29) (mk_rchW σ n (mk_clrR ir 256) i29) i60) i60 (xk_b (¬ ((mk_rchR σ (nI i29) (mk_rchW σ n (mk_clrR ir 256) i29) i60) i60 = 0) ∨ mk_tch σ (nI i29) (nI i60)))) (rfl) hP hS (lv_sub hl [0, 1, 2, 3] rfl)
                  refine lv_if_ne (tgt := 94) hx hb dX3_holesAnew_82 (by decide) (fun c_11 => ?_) (fun c_11 => ?_)
                  · skip
                    refine lv_iconst (v := 1) hx hb dX3_holesAnew_94 (by decide) ?_
                    refine lv_goto (tgt := 99) hx hb dX3_holesAnew_95 (by decide) ?_
                    exact J99_12 _ _ _ 1 ((if_pos (Or.inl c_11)).symm) hP hS (lv_sub hl [0, 1, 2, 3] rfl)
                  refine lv_aload_n hx hb dX3_holesAnew_85 rfl (lv_at hl 3 rfl) ?_
                  refine lv_iload_n hx hb dX3_holesAnew_86 rfl (lv_at hl 2 rfl) ?_
                  refine lv_iload_n hx hb dX3_holesAnew_87 rfl (lv_at hl 0 rfl) ?_
                  refine mk_ciV hAt hK hP hA hS (As := [.int (nI i29), .int (nI i60)]) (rest := [.int (nI i60), .ref (ad 14)]) (m_touches l D A ad σ nw az (mk_rchR σ (nI i29) (mk_rchW σ n (mk_clrR ir 256) i29) i60) n 0 hJ (nI i29) (nI i60)) (cwV 2 hts (lw_V q944 q946 qs18 q42 q947) rfl rfl rfl cdX3_touches ⟨Nat.le_of_ble_eq_true rfl, Nat.le_of_ble_eq_true rfl⟩) rfl hl.1 rfl (Nat.le_of_ble_eq_true rfl) dX3_holesAnew_88 ⟨Nat.le_refl _, Nat.le_refl _⟩ (fun r H locs hq hS => ?_)
                  obtain ⟨rfl, hP⟩ := hq
                  refine xk_ifeq (tgt := 98) hx hb dX3_holesAnew_91 (by decide) (fun c_13 => ?_) (fun c_13 => ?_)
                  · skip
                    refine lv_iconst (v := 0) hx hb dX3_holesAnew_98 (by decide) ?_
                    exact J99_12 _ _ _ 0 ((if_neg (fun h => h.elim (fun z => z c_11) (fun z => c_13 z))).symm) hP hS (lv_sub hl [0, 1, 2, 3] rfl)
                  refine lv_iconst (v := 1) hx hb dX3_holesAnew_94 (by decide) ?_
                  refine lv_goto (tgt := 99) hx hb dX3_holesAnew_95 (by decide) ?_
                  exact J99_12 _ _ _ 1 ((if_pos (Or.inr c_13)).symm) hP hS (lv_sub hl [0, 1, 2, 3] rfl)
              exact L60 (256 + 1) 0 (by omega) (by omega) (Or.inl rfl) _ _ _ (mk_rchW σ n (mk_clrR ir 256) i29) (rfl) hP hS (lv_sub hl [0, 1, 2, 3] rfl)
            refine xk_ifeq (tgt := 56) hx hb dX3_holesAnew_41 (by decide) (fun c_6 => ?_) (fun c_6 => ?_)
            · skip
              refine lv_iconst (v := 0) hx hb dX3_holesAnew_56 (by decide) ?_
              exact J57_7 _ _ _ 0 ((if_neg (fun h => c_6 h.1)).symm) hP hS (lv_sub hl [0, 1] rfl)
            refine lv_aload_n hx hb dX3_holesAnew_44 rfl (lv_at hl 1 rfl) ?_
            refine lv_iload_n hx hb dX3_holesAnew_45 rfl (lv_at hl 0 rfl) ?_
            refine mk_ciV hAt hK hP hA hS (As := [.int (nI i29)]) (rest := []) (m_lets l D A ad σ nw az (mk_rchW σ n (mk_clrR ir 256) i29) n 0 hJ (by assumption) (nI i29)) (cwV 1 hts (lw_V q1024 q1026 qs34 q42 q1027) rfl rfl rfl cdX3_lets ⟨Nat.le_of_ble_eq_true rfl, Nat.le_of_ble_eq_true rfl⟩) rfl hl.1 rfl (Nat.le_of_ble_eq_true rfl) dX3_holesAnew_46 ⟨Nat.le_refl _, Nat.le_refl _⟩ (fun r H locs hq hS => ?_)
            obtain ⟨rfl, hP⟩ := hq
            refine xk_ifeq (tgt := 56) hx hb dX3_holesAnew_49 (by decide) (fun c_14 => ?_) (fun c_14 => ?_)
            · skip
              refine lv_iconst (v := 0) hx hb dX3_holesAnew_56 (by decide) ?_
              exact J57_7 _ _ _ 0 ((if_neg (fun h => c_14 h.2)).symm) hP hS (lv_sub hl [0, 1] rfl)
            refine lv_iconst (v := 1) hx hb dX3_holesAnew_52 (by decide) ?_
            refine lv_goto (tgt := 57) hx hb dX3_holesAnew_53 (by decide) ?_
            exact J57_7 _ _ _ 1 ((if_pos ⟨c_6, c_14⟩).symm) hP hS (lv_sub hl [0, 1] rfl)
        exact L29 (256 + 1) 0 (by omega) (by omega)  _ _ _ (mk_clrR ir 256) (rfl) hP hS (lv_sub hl [0, 1] rfl)
      refine lv_aload_n hx hb dX3_holesAnew_14 rfl (lv_at hl 1 rfl) ?_
      refine mk_get hAt hK hP 19 (by decide) (v := .ref (ad 14)) rfl (hts _ q809) rfl dX3_holesAnew_15 ?_
      refine lv_iload_n hx hb dX3_holesAnew_18 rfl (lv_at hl 0 rfl) ?_
      refine lv_iconst (v := 0) hx hb dX3_holesAnew_19 (by decide) ?_
      refine mk_zast hAt hK hJ hP hS i7 (by omega) (ir' := upd (mk_clrR ir i7) i7 0) (by decide +kernel) rfl dX3_holesAnew_20 (fun H locs hP hS => ?_)
      refine lv_iinc (v := nI (i7 + 1)) (lv' := [(1, .int (nI (i7 + 1))), (0, .ref (ad 0))]) hx hb dX3_holesAnew_21 hl (k := 0) rfl (xk_inc i7) (by decide) rfl (fun ls hl => ?_)
      refine lv_goto (tgt := 7) hx hb dX3_holesAnew_24 (by decide) ?_
      exact ih7 (i7 + 1) (by omega) (by omega)  _ _ _ (upd (mk_clrR ir i7) i7 0) (rfl) hP hS (lv_sub hl [0, 1] rfl)
  exact L7 (256 + 1) 0 (by omega) (by omega)  _ _ _ ir (rfl) hP hS (lv_sub hl [0, 1] rfl)
