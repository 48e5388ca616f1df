/-! THE BODY's methods: the reads, and the public ones when they answer (no new cell) (printed by gen/model.py) -/
set_option maxRecDepth 100000
theorem cdX1_check : yX1_check.cls ≠ "java/lang/invoke/MethodHandle" ∧ yX1_check.cls ≠ "java/lang/invoke/VarHandle" ∧ (parseMethodDescriptor yX1_check.desc).map (fun d => d.parameters.length) = some 3 := by decide +kernel
theorem cdX1_checkThere : yX1_checkThere.cls ≠ "java/lang/invoke/MethodHandle" ∧ yX1_checkThere.cls ≠ "java/lang/invoke/VarHandle" ∧ (parseMethodDescriptor yX1_checkThere.desc).map (fun d => d.parameters.length) = some 2 := by decide +kernel
theorem cdX1_checkState : yX1_checkState.cls ≠ "java/lang/invoke/MethodHandle" ∧ yX1_checkState.cls ≠ "java/lang/invoke/VarHandle" ∧ (parseMethodDescriptor yX1_checkState.desc).map (fun d => d.parameters.length) = some 1 := by decide +kernel
theorem cdX1_checkWord : yX1_checkWord.cls ≠ "java/lang/invoke/MethodHandle" ∧ yX1_checkWord.cls ≠ "java/lang/invoke/VarHandle" ∧ (parseMethodDescriptor yX1_checkWord.desc).map (fun d => d.parameters.length) = some 1 := by decide +kernel
theorem cdX1_checkLetter : yX1_checkLetter.cls ≠ "java/lang/invoke/MethodHandle" ∧ yX1_checkLetter.cls ≠ "java/lang/invoke/VarHandle" ∧ (parseMethodDescriptor yX1_checkLetter.desc).map (fun d => d.parameters.length) = some 1 := by decide +kernel
theorem cdX2_sum : yX2_sum.cls = RX2 ∧ yX2_sum.cls ≠ "java/lang/invoke/MethodHandle" ∧ yX2_sum.cls ≠ "java/lang/invoke/VarHandle" ∧ (parseMethodDescriptor yX2_sum.desc).map (fun d => d.parameters.length) = some 1 := by decide +kernel
theorem cdX1_isOfLibrary : yX1_isOfLibrary.cls = RX1 ∧ yX1_isOfLibrary.cls ≠ "java/lang/invoke/MethodHandle" ∧ yX1_isOfLibrary.cls ≠ "java/lang/invoke/VarHandle" ∧ (parseMethodDescriptor yX1_isOfLibrary.desc).map (fun d => d.parameters.length) = some 1 := by decide +kernel
theorem cdX1_isHole : yX1_isHole.cls = RX1 ∧ yX1_isHole.cls ≠ "java/lang/invoke/MethodHandle" ∧ yX1_isHole.cls ≠ "java/lang/invoke/VarHandle" ∧ (parseMethodDescriptor yX1_isHole.desc).map (fun d => d.parameters.length) = some 1 := by decide +kernel
theorem cdX1_holes : yX1_holes.cls = RX1 ∧ yX1_holes.cls ≠ "java/lang/invoke/MethodHandle" ∧ yX1_holes.cls ≠ "java/lang/invoke/VarHandle" ∧ (parseMethodDescriptor yX1_holes.desc).map (fun d => d.parameters.length) = some 0 := by decide +kernel
theorem cdX1_holesAnew : yX1_holesAnew.cls = RX1 ∧ yX1_holesAnew.cls ≠ "java/lang/invoke/MethodHandle" ∧ yX1_holesAnew.cls ≠ "java/lang/invoke/VarHandle" ∧ (parseMethodDescriptor yX1_holesAnew.desc).map (fun d => d.parameters.length) = some 0 := by decide +kernel
theorem cdX1_cellAt : yX1_cellAt.cls = RX1 ∧ yX1_cellAt.cls ≠ "java/lang/invoke/MethodHandle" ∧ yX1_cellAt.cls ≠ "java/lang/invoke/VarHandle" ∧ (parseMethodDescriptor yX1_cellAt.desc).map (fun d => d.parameters.length) = some 1 := by decide +kernel
theorem cdX1_invaderAt : yX1_invaderAt.cls = RX1 ∧ yX1_invaderAt.cls ≠ "java/lang/invoke/MethodHandle" ∧ yX1_invaderAt.cls ≠ "java/lang/invoke/VarHandle" ∧ (parseMethodDescriptor yX1_invaderAt.desc).map (fun d => d.parameters.length) = some 1 := by decide +kernel
theorem cdX1_table : yX1_table.cls = RX1 ∧ yX1_table.cls ≠ "java/lang/invoke/MethodHandle" ∧ yX1_table.cls ≠ "java/lang/invoke/VarHandle" ∧ (parseMethodDescriptor yX1_table.desc).map (fun d => d.parameters.length) = some 3 := by decide +kernel
theorem cdX1_fit : yX1_fit.cls = RX1 ∧ yX1_fit.cls ≠ "java/lang/invoke/MethodHandle" ∧ yX1_fit.cls ≠ "java/lang/invoke/VarHandle" ∧ (parseMethodDescriptor yX1_fit.desc).map (fun d => d.parameters.length) = some 2 := by decide +kernel
theorem cdX1_harm : yX1_harm.cls = RX1 ∧ yX1_harm.cls ≠ "java/lang/invoke/MethodHandle" ∧ yX1_harm.cls ≠ "java/lang/invoke/VarHandle" ∧ (parseMethodDescriptor yX1_harm.desc).map (fun d => d.parameters.length) = some 1 := by decide +kernel
theorem cdX1_nearness : yX1_nearness.cls = RX1 ∧ yX1_nearness.cls ≠ "java/lang/invoke/MethodHandle" ∧ yX1_nearness.cls ≠ "java/lang/invoke/VarHandle" ∧ (parseMethodDescriptor yX1_nearness.desc).map (fun d => d.parameters.length) = some 1 := by decide +kernel
theorem cdX1_cellIs : yX1_cellIs.cls = RX1 ∧ yX1_cellIs.cls ≠ "java/lang/invoke/MethodHandle" ∧ yX1_cellIs.cls ≠ "java/lang/invoke/VarHandle" ∧ (parseMethodDescriptor yX1_cellIs.desc).map (fun d => d.parameters.length) = some 2 := by decide +kernel
theorem cdX1_invaderIs : yX1_invaderIs.cls = RX1 ∧ yX1_invaderIs.cls ≠ "java/lang/invoke/MethodHandle" ∧ yX1_invaderIs.cls ≠ "java/lang/invoke/VarHandle" ∧ (parseMethodDescriptor yX1_invaderIs.desc).map (fun d => d.parameters.length) = some 2 := by decide +kernel
theorem cdX1_change : yX1_change.cls = RX1 ∧ yX1_change.cls ≠ "java/lang/invoke/MethodHandle" ∧ yX1_change.cls ≠ "java/lang/invoke/VarHandle" ∧ (parseMethodDescriptor yX1_change.desc).map (fun d => d.parameters.length) = some 2 := by decide +kernel
theorem cdX1_why : yX1_why.cls = RX1 ∧ yX1_why.cls ≠ "java/lang/invoke/MethodHandle" ∧ yX1_why.cls ≠ "java/lang/invoke/VarHandle" ∧ (parseMethodDescriptor yX1_why.desc).map (fun d => d.parameters.length) = some 1 := by decide +kernel
theorem cdX1_pass : yX1_pass.cls = RX1 ∧ yX1_pass.cls ≠ "java/lang/invoke/MethodHandle" ∧ yX1_pass.cls ≠ "java/lang/invoke/VarHandle" ∧ (parseMethodDescriptor yX1_pass.desc).map (fun d => d.parameters.length) = some 1 := by decide +kernel
theorem cdX1_sum : yX1_sum.cls = RX1 ∧ yX1_sum.cls ≠ "java/lang/invoke/MethodHandle" ∧ yX1_sum.cls ≠ "java/lang/invoke/VarHandle" ∧ (parseMethodDescriptor yX1_sum.desc).map (fun d => d.parameters.length) = some 1 := by decide +kernel
set_option maxHeartbeats 4000000 in
theorem b_check (l : Launch) (D : xk_G) (A : Nat → Prop) (P : Heap → Prop) (x a b : Int32) (hc0 : mk_in x a b) : Met l yX1_check (ws_ yX1_check cX1_check 3 (none)) (xk_R 0 0) (xk_Pre D A P [.int x, .int a, .int b]) (xk_Pv A (fun H => P H)) 0 0 A := by
  refine xk_startV (by decide +kernel) (Nat.le_of_ble_eq_true rfl) ?_
  intro p e s m args below meth c Q hAt hin hK hA hP hR ls hl
  obtain ⟨hx, hb, hml, hown, hts⟩ := id hAt
  have hl : lv_has ls 3 [(0, .int x), (1, .int a), (2, .int b)] := hl
  have hS : va_S A s.heap s.heap [] := va_S.rf
  refine lv_iload_n hx hb dX1_check_0 rfl (lv_at hl 0 rfl) ?_
  refine lv_iload_n hx hb dX1_check_1 rfl (lv_at hl 1 rfl) ?_
  refine lv_icmp_lt (tgt := 10) hx hb dX1_check_2 (by decide) (fun c_1 => ?_) (fun c_1 => ?_)
  · skip
    exact absurd c_1 hc0.1
  refine lv_iload_n hx hb dX1_check_5 rfl (lv_at hl 0 rfl) ?_
  refine lv_iload_n hx hb dX1_check_6 rfl (lv_at hl 2 rfl) ?_
  refine lv_icmp_le (tgt := 18) hx hb dX1_check_7 (by decide) (fun c_2 => ?_) (fun c_2 => ?_)
  · skip
    exact hR _ _ _ _ dX1_check_18 (hP) hS
  exact absurd (Int32.not_le.mp c_2) hc0.2
set_option maxHeartbeats 4000000 in
theorem b_checkThere (l : Launch) (D : xk_G) (A : Nat → Prop) (P : Heap → Prop) (k v : Nat) (hk : k < v) (hv : v < 2147483648) : Met l yX1_checkThere (ws_ yX1_checkThere cX1_checkThere 2 (none)) (xk_R 0 0) (xk_Pre D A P [.int (nI k), .int (nI v)]) (xk_Pv A (fun H => P H)) 0 0 A := by
  refine xk_startV (by decide +kernel) (Nat.le_of_ble_eq_true rfl) ?_
  intro p e s m args below meth c Q hAt hin hK hA hP hR ls hl
  obtain ⟨hx, hb, hml, hown, hts⟩ := id hAt
  have hl : lv_has ls 2 [(0, .int (nI k)), (1, .int (nI v))] := hl
  have hS : va_S A s.heap s.heap [] := va_S.rf
  refine lv_iload_n hx hb dX1_checkThere_0 rfl (lv_at hl 0 rfl) ?_
  refine lv_if_lt (tgt := 9) hx hb dX1_checkThere_1 (by decide) (fun c_1 => ?_) (fun c_1 => ?_)
  · skip
    first | omega | exact absurd c_1 (nI_pos (by omega))
  refine lv_iload_n hx hb dX1_checkThere_4 rfl (lv_at hl 0 rfl) ?_
  refine lv_iload_n hx hb dX1_checkThere_5 rfl (lv_at hl 1 rfl) ?_
  refine mk_lt (tgt := 17) (a := k) (b := v) hx hb (by omega) (by omega) dX1_checkThere_6 (by decide) (fun c_2 => ?_) (fun c_2 => ?_)
  · skip
    exact hR _ _ _ _ dX1_checkThere_17 (hP) hS
  first | omega | exact absurd (Nat.not_lt.mpr c_2) (nI_pos (by omega))
set_option maxHeartbeats 4000000 in
theorem b_checkState (l : Launch) (D : xk_G) (A : Nat → Prop) (P : Heap → Prop) (B : Prop) [Decidable B] (hB : B) : Met l yX1_checkState (ws_ yX1_checkState cX1_checkState 1 (none)) (xk_R 0 0) (xk_Pre D A P [.int (xk_b (B))]) (xk_Pv A (fun H => P H)) 0 0 A := by
  refine xk_startV (by decide +kernel) (Nat.le_of_ble_eq_true rfl) ?_
  intro p e s m args below meth c Q hAt hin hK hA hP hR ls hl
  obtain ⟨hx, hb, hml, hown, hts⟩ := id hAt
  have hl : lv_has ls 1 [(0, .int (xk_b (B)))] := hl
  have hS : va_S A s.heap s.heap [] := va_S.rf
  refine lv_iload_n hx hb dX1_checkState_0 rfl (lv_at hl 0 rfl) ?_
  refine xk_ifne (tgt := 12) hx hb dX1_checkState_1 (by decide) (fun c_1 => ?_) (fun c_1 => ?_)
  · skip
    exact hR _ _ _ _ dX1_checkState_12 (hP) hS
  exact absurd hB c_1
set_option maxHeartbeats 4000000 in
theorem b_checkWord (l : Launch) (D : xk_G) (A : Nat → Prop) (P : Heap → Prop) (x : Int32) (hx0 : mk_in x 0 255) : Met l yX1_checkWord (ws_ yX1_checkWord cX1_checkWord 1 (none)) (xk_R 1 22) (xk_Pre D A P [.int x]) (xk_Pv A (fun H => P H)) 0 0 A := by
  refine xk_startV (by decide +kernel) (Nat.le_of_ble_eq_true rfl) ?_
  intro p e s m args below meth c Q hAt hin hK hA hP hR ls hl
  obtain ⟨hx, hb, hml, hown, hts⟩ := id hAt
  have hl : lv_has ls 1 [(0, .int x)] := hl
  have hS : va_S A s.heap s.heap [] := va_S.rf
  refine lv_iload_n hx hb dX1_checkWord_0 rfl (lv_at hl 0 rfl) ?_
  refine lv_iconst (v := 0) hx hb dX1_checkWord_1 (by decide) ?_
  refine lv_sipush (v := 255) hx hb dX1_checkWord_2 (by decide) ?_
  refine xk_cvS hAt hK (P := P) hP hA hS (As := [.int x, .int 0, .int 255]) (rest := []) (b_check l D A (P) x 0 255 (by assumption)) (va_cwS 3 hts (lw_S q167 q168 q37 q169) rfl rfl rfl cdX1_check ⟨Nat.le_of_ble_eq_true rfl, Nat.le_of_ble_eq_true rfl⟩) rfl hl.1 rfl (Nat.le_of_ble_eq_true rfl) dX1_checkWord_5 ⟨Nat.le_refl _, Nat.le_refl _⟩ (fun H locs hP hS => ?_)
  exact hR _ _ _ _ dX1_checkWord_8 (hP) hS
set_option maxHeartbeats 4000000 in
theorem b_checkLetter (l : Launch) (D : xk_G) (A : Nat → Prop) (P : Heap → Prop) (x : Int32) (hx0 : mk_in x 0 3) : Met l yX1_checkLetter (ws_ yX1_checkLetter cX1_checkLetter 1 (none)) (xk_R 1 22) (xk_Pre D A P [.int x]) (xk_Pv A (fun H => P H)) 0 0 A := by
  refine xk_startV (by decide +kernel) (Nat.le_of_ble_eq_true rfl) ?_
  intro p e s m args below meth c Q hAt hin hK hA hP hR ls hl
  obtain ⟨hx, hb, hml, hown, hts⟩ := id hAt
  have hl : lv_has ls 1 [(0, .int x)] := hl
  have hS : va_S A s.heap s.heap [] := va_S.rf
  refine lv_iload_n hx hb dX1_checkLetter_0 rfl (lv_at hl 0 rfl) ?_
  refine lv_iconst (v := 0) hx hb dX1_checkLetter_1 (by decide) ?_
  refine lv_iconst (v := 3) hx hb dX1_checkLetter_2 (by decide) ?_
  refine xk_cvS hAt hK (P := P) hP hA hS (As := [.int x, .int 0, .int 3]) (rest := []) (b_check l D A (P) x 0 3 (by assumption)) (va_cwS 3 hts (lw_S q167 q168 q37 q169) rfl rfl rfl cdX1_check ⟨Nat.le_of_ble_eq_true rfl, Nat.le_of_ble_eq_true rfl⟩) rfl hl.1 rfl (Nat.le_of_ble_eq_true rfl) dX1_checkLetter_3 ⟨Nat.le_refl _, Nat.le_refl _⟩ (fun H locs hP hS => ?_)
  exact hR _ _ _ _ dX1_checkLetter_6 (hP) hS
set_option maxHeartbeats 4000000 in
theorem b_sumI (l : Launch) (D : xk_G) (A : Nat → Prop) (ad : Nat → Nat) (ρ : Nat) (σ : Nat → Nat → Int32) (nw : Nat → Int32) (n : Nat → Nat) (h3m : n 3 ≤ 40) (h4m : n 4 ≤ 8) (x : Nat) (hx5 : x ≤ 5) : Met l yX2_sum (ws_ yX2_sum cX2_sum 4 (some .int)) (xk_R 4 86) (xk_Pre D A (bP D ad ρ σ nw n) [.ref (ad 100), .int (nI x)]) (xk_Pi A (fun r H => r = bk_sum nw n x ∧ bP D ad ρ σ nw n H)) 0 0 A := by
  refine xk_startI (by decide +kernel) (Nat.le_of_ble_eq_true rfl) ?_
  intro p e s m args below meth c Q hAt hin hK hA hP hR ls hl
  obtain ⟨hx, hb, hml, hown, hts⟩ := id hAt
  have hl : lv_has ls 4 [(0, .ref (ad 100)), (1, .int (nI x))] := hl
  have hS : va_S A s.heap s.heap [] := va_S.rf
  refine lv_iconst (v := 0) hx hb dX2_sum_0 (by decide) ?_
  refine lv_istore_n (lv' := [(2, .int 0), (0, .ref (ad 100)), (1, .int (nI x))]) hx hb dX2_sum_1 rfl hl (by decide) rfl (fun ls hl => ?_)
  refine lv_iconst (v := 0) hx hb dX2_sum_2 (by decide) ?_
  refine lv_istore_n (lv' := [(3, .int 0), (2, .int 0), (0, .ref (ad 100)), (1, .int (nI x))]) hx hb dX2_sum_3 rfl hl (by decide) rfl (fun ls hl => ?_)
  have L4 : ∀ (fu i4 : Nat), n 3 + 1 ≤ i4 + fu → i4 ≤ n 3 → ∀ (H : Heap) (locs : List Loc) (ls : Array Slot) (v2 : Int32), v2 = bk_s1 nw x i4 → bP D ad ρ σ nw n H → va_S A s.heap H locs → lv_has ls 4 [(3, .int (nI i4)), (2, .int v2), (0, .ref (ad 100)), (1, .int (nI x))] → W p l e (xk_R 4 86) s m args below meth c H locs 0 0 Q (F0 m 4 ls []) := by
    intro fu
    induction fu with
    | zero => intro i4 h4a h4b; exact absurd h4a (by omega)
    | succ fu ih4 =>
      intro i4 h4a h4b  H locs ls v2 ev2 hP hS hl
      subst ev2
      refine lv_iload_n hx hb dX2_sum_4 rfl (lv_at hl 0 rfl) ?_
      refine lv_aload_n hx hb dX2_sum_5 rfl (lv_at hl 2 rfl) ?_
      refine xk_getO hAt hK (b100 hP) (C := RX2) (T := TX2) (N := 7) rfl 0 (by decide) (v := .ref (ad 101)) rfl (hts _ q109) (fun _ h => h) in_X2 dX2_sum_6 ?_
      refine xk_ciF hAt hK (P := bP D ad ρ σ nw n) hP hA hS (xk_recvL hK (bcl hP)) (As := []) (rest := [.int (nI i4)]) (al_size l D A (bP D ad ρ σ nw n) (ad 101) (ad 104) (n 3) (fun j => ad (120 + j)) (fun _ h => bcl h)) (va_cwF 0 hts (xk_lwF q671 q240 q242 q40 q244) rfl rfl rfl hK.2.2.1 (by decide +kernel) ⟨Nat.le_of_ble_eq_true rfl, Nat.le_of_ble_eq_true rfl⟩) rfl hl.1 rfl (Nat.le_of_ble_eq_true rfl) dX2_sum_9 ⟨Nat.le_refl _, Nat.le_refl _⟩ (fun r H locs hq hS => ?_)
      obtain ⟨rfl, hP⟩ := hq
      refine mk_ge (tgt := 51) (a := i4) (b := n 3) hx hb (by omega) (by omega) dX2_sum_14 (by decide) (fun c_1 => ?_) (fun c_1 => ?_)
      · skip
        obtain rfl : i4 = n 3 := by omega
        refine lv_iconst (v := 0) hx hb dX2_sum_51 (by decide) ?_
        refine lv_istore_n (lv' := [(3, .int 0), (2, .int (bk_s1 nw x (n 3))), (0, .ref (ad 100)), (1, .int (nI x))]) hx hb dX2_sum_52 rfl hl (by decide) rfl (fun ls hl => ?_)
        have L53 : ∀ (fu i53 : Nat), 8 + 1 ≤ i53 + fu → i53 ≤ 8 → ∀ (H : Heap) (locs : List Loc) (ls : Array Slot) (v2 : Int32), v2 = bk_s2 nw x (bk_s1 nw x (n 3)) i53 → bP D ad ρ σ nw n H → va_S A s.heap H locs → lv_has ls 4 [(3, .int (nI i53)), (2, .int v2), (0, .ref (ad 100)), (1, .int (nI x))] → W p l e (xk_R 4 86) s m args below meth c H locs 0 0 Q (F0 m 53 ls []) := by
          intro fu
          induction fu with
          | zero => intro i53 h53a h53b; exact absurd h53a (by omega)
          | succ fu ih53 =>
            intro i53 h53a h53b  H locs ls v2 ev2 hP hS hl
            subst ev2
            refine lv_iload_n hx hb dX2_sum_53 rfl (lv_at hl 0 rfl) ?_
            refine lv_bipush (v := 8) hx hb dX2_sum_54 (by decide) ?_
            refine mk_ge (tgt := 83) (a := i53) (b := 8) hx hb (by omega) (by omega) dX2_sum_56 (by decide) (fun c_2 => ?_) (fun c_2 => ?_)
            · skip
              obtain rfl : i53 = 8 := by omega
              refine lv_iload_n hx hb dX2_sum_83 rfl (lv_at hl 3 rfl) ?_
              rcases (show x = 0 ∨ x = 1 ∨ x = 2 ∨ x = 3 ∨ x = 4 ∨ x = 5 by omega) with rfl | rfl | rfl | rfl | rfl | rfl
              · refine lv_tableIn (x := nI 0) (off := 40) (tgt := 124) hx hb dX2_sum_84 (by decide) (by decide) rfl (by decide) ?_
                refine lv_aload_n hx hb dX2_sum_124 rfl (lv_at hl 2 rfl) ?_
                refine xk_getO hAt hK (b100 hP) (C := RX2) (T := TX2) (N := 7) rfl 3 (by decide) (v := .int (nw 152)) rfl (hts _ q115) (fun _ h => h) in_X2 dX2_sum_125 ?_
                refine lv_goto (tgt := 153) hx hb dX2_sum_128 (by decide) ?_
                exact hR _ _ _ _ _ dX2_sum_153 (⟨rfl, hP⟩) hS
              · refine lv_tableIn (x := nI 1) (off := 47) (tgt := 131) hx hb dX2_sum_84 (by decide) (by decide) rfl (by decide) ?_
                refine lv_aload_n hx hb dX2_sum_131 rfl (lv_at hl 2 rfl) ?_
                refine xk_getO hAt hK (b100 hP) (C := RX2) (T := TX2) (N := 7) rfl 4 (by decide) (v := .int (nw 153)) rfl (hts _ q116) (fun _ h => h) in_X2 dX2_sum_132 ?_
                refine lv_goto (tgt := 153) hx hb dX2_sum_135 (by decide) ?_
                exact hR _ _ _ _ _ dX2_sum_153 (⟨rfl, hP⟩) hS
              · refine lv_tableIn (x := nI 2) (off := 68) (tgt := 152) hx hb dX2_sum_84 (by decide) (by decide) rfl (by decide) ?_
                refine lv_iload_n hx hb dX2_sum_152 rfl (lv_at hl 1 rfl) ?_
                exact hR _ _ _ _ _ dX2_sum_153 (⟨rfl, hP⟩) hS
              · refine lv_tableIn (x := nI 3) (off := 54) (tgt := 138) hx hb dX2_sum_84 (by decide) (by decide) rfl (by decide) ?_
                refine lv_aload_n hx hb dX2_sum_138 rfl (lv_at hl 2 rfl) ?_
                refine xk_ciV hAt hK (P := bP D ad ρ σ nw n) hP hA hS (xk_recv (q := (RX2, TX2, 7)) hK (b100 hP) rfl) (As := []) (rest := []) (b_invaderSizesI l D A ad ρ σ nw n (by assumption)) (cwV 0 hts (lw_V q684 q685 q686 q41 q687) rfl rfl rfl cdX2_invaderSizes ⟨Nat.le_of_ble_eq_true rfl, Nat.le_of_ble_eq_true rfl⟩) rfl hl.1 rfl (Nat.le_of_ble_eq_true rfl) dX2_sum_139 ⟨Nat.le_refl _, Nat.le_refl _⟩ (fun r H locs hq hS => ?_)
                obtain ⟨rfl, hP⟩ := hq
                refine lv_goto (tgt := 153) hx hb dX2_sum_142 (by decide) ?_
                exact hR _ _ _ _ _ dX2_sum_153 (⟨rfl, hP⟩) hS
              · refine lv_tableIn (x := nI 4) (off := 68) (tgt := 152) hx hb dX2_sum_84 (by decide) (by decide) rfl (by decide) ?_
                refine lv_iload_n hx hb dX2_sum_152 rfl (lv_at hl 1 rfl) ?_
                exact hR _ _ _ _ _ dX2_sum_153 (⟨rfl, hP⟩) hS
              · refine lv_tableIn (x := nI 5) (off := 61) (tgt := 145) hx hb dX2_sum_84 (by decide) (by decide) rfl (by decide) ?_
                refine lv_aload_n hx hb dX2_sum_145 rfl (lv_at hl 2 rfl) ?_
                refine xk_getO hAt hK (b100 hP) (C := RX2) (T := TX2) (N := 7) rfl 5 (by decide) (v := .int (nw 154)) rfl (hts _ q117) (fun _ h => h) in_X2 dX2_sum_146 ?_
                refine lv_goto (tgt := 153) hx hb dX2_sum_149 (by decide) ?_
                exact hR _ _ _ _ _ dX2_sum_153 (⟨rfl, hP⟩) hS
            refine lv_iload_n hx hb dX2_sum_59 rfl (lv_at hl 1 rfl) ?_
            refine lv_iload_n hx hb dX2_sum_60 rfl (lv_at hl 3 rfl) ?_
            refine lv_iconst (v := 4) hx hb dX2_sum_61 (by decide) ?_
            have J75_4 : ∀ (H : Heap) (locs : List Loc) (ls : Array Slot) (t0 : Int32), t0 = (if x = 4 then nw (144 + i53) else 0) → bP D ad ρ σ nw n H → va_S A s.heap H locs → lv_has ls 4 [(3, .int (nI i53)), (2, .int (bk_s2 nw x (bk_s1 nw x (n 3)) i53)), (0, .ref (ad 100)), (1, .int (nI x))] → W p l e (xk_R 4 86) s m args below meth c H locs 0 0 Q (F0 m 75 ls [.int t0, .int (bk_s2 nw x (bk_s1 nw x (n 3)) i53)]) := by
              intro H locs ls t0 et0 hP hS hl
              subst et0
              refine lv_iadd hx hb dX2_sum_75 ?_
              refine lv_istore_n (lv' := [(2, .int ((bk_s2 nw x (bk_s1 nw x (n 3)) i53) + (if x = 4 then nw (144 + i53) else 0))), (3, .int (nI i53)), (0, .ref (ad 100)), (1, .int (nI x))]) hx hb dX2_sum_76 rfl hl (by decide) rfl (fun ls hl => ?_)
              refine lv_iinc (v := nI (i53 + 1)) (lv' := [(3, .int (nI (i53 + 1))), (2, .int ((bk_s2 nw x (bk_s1 nw x (n 3)) i53) + (if x = 4 then nw (144 + i53) else 0))), (0, .ref (ad 100)), (1, .int (nI x))]) hx hb dX2_sum_77 hl (k := 1) rfl (xk_inc i53) (by decide) rfl (fun ls hl => ?_)
              refine lv_goto (tgt := 53) hx hb dX2_sum_80 (by decide) ?_
              exact ih53 (i53 + 1) (by omega) (by omega)  _ _ _ ((bk_s2 nw x (bk_s1 nw x (n 3)) i53) + (if x = 4 then nw (144 + i53) else 0)) (rfl) hP hS (lv_sub hl [0, 1, 2, 3] rfl)
            refine mk_ne (tgt := 74) (a := x) (b := 4) hx hb (by omega) (by omega) dX2_sum_62 (by decide) (fun c_3 => ?_) (fun c_3 => ?_)
            · skip
              refine lv_iconst (v := 0) hx hb dX2_sum_74 (by decide) ?_
              exact J75_4 _ _ _ 0 ((if_neg c_3).symm) hP hS (lv_sub hl [0, 1, 2, 3] rfl)
            refine lv_aload_n hx hb dX2_sum_65 rfl (lv_at hl 2 rfl) ?_
            refine xk_getO hAt hK (b100 hP) (C := RX2) (T := TX2) (N := 7) rfl 2 (by decide) (v := .ref (ad 103)) rfl (hts _ q113) (fun _ h => h) in_X2 dX2_sum_66 ?_
            refine lv_iload_n hx hb dX2_sum_69 rfl (lv_at hl 0 rfl) ?_
            refine xk_ialdO hAt hK (bhm hP) i53 (by omega) (by decide) dX2_sum_70 ?_
            refine xk_to (y := nw (144 + i53)) rfl ?_
            refine lv_goto (tgt := 75) hx hb dX2_sum_71 (by decide) ?_
            exact J75_4 _ _ _ (nw (144 + i53)) ((if_pos c_3).symm) hP hS (lv_sub hl [0, 1, 2, 3] rfl)
        exact L53 (8 + 1) 0 (by omega) (by omega)  _ _ _ (bk_s1 nw x (n 3)) (rfl) hP hS (lv_sub hl [0, 1, 2, 3] rfl)
      refine lv_iload_n hx hb dX2_sum_17 rfl (lv_at hl 1 rfl) ?_
      refine lv_iload_n hx hb dX2_sum_18 rfl (lv_at hl 3 rfl) ?_
      refine lv_iconst (v := 2) hx hb dX2_sum_19 (by decide) ?_
      have J43_6 : ∀ (H : Heap) (locs : List Loc) (ls : Array Slot) (t0 : Int32), t0 = (if x = 2 then nw (40 + i4) else 0) → bP D ad ρ σ nw n H → va_S A s.heap H locs → lv_has ls 4 [(3, .int (nI i4)), (2, .int (bk_s1 nw x i4)), (0, .ref (ad 100)), (1, .int (nI x))] → W p l e (xk_R 4 86) s m args below meth c H locs 0 0 Q (F0 m 43 ls [.int t0, .int (bk_s1 nw x i4)]) := by
        intro H locs ls t0 et0 hP hS hl
        subst et0
        refine lv_iadd hx hb dX2_sum_43 ?_
        refine lv_istore_n (lv' := [(2, .int ((bk_s1 nw x i4) + (if x = 2 then nw (40 + i4) else 0))), (3, .int (nI i4)), (0, .ref (ad 100)), (1, .int (nI x))]) hx hb dX2_sum_44 rfl hl (by decide) rfl (fun ls hl => ?_)
        refine lv_iinc (v := nI (i4 + 1)) (lv' := [(3, .int (nI (i4 + 1))), (2, .int ((bk_s1 nw x i4) + (if x = 2 then nw (40 + i4) else 0))), (0, .ref (ad 100)), (1, .int (nI x))]) hx hb dX2_sum_45 hl (k := 1) rfl (xk_inc i4) (by decide) rfl (fun ls hl => ?_)
        refine lv_goto (tgt := 4) hx hb dX2_sum_48 (by decide) ?_
        exact ih4 (i4 + 1) (by omega) (by omega)  _ _ _ ((bk_s1 nw x i4) + (if x = 2 then nw (40 + i4) else 0)) (rfl) hP hS (lv_sub hl [0, 1, 2, 3] rfl)
      refine mk_ne (tgt := 42) (a := x) (b := 2) hx hb (by omega) (by omega) dX2_sum_20 (by decide) (fun c_5 => ?_) (fun c_5 => ?_)
      · skip
        refine lv_iconst (v := 0) hx hb dX2_sum_42 (by decide) ?_
        exact J43_6 _ _ _ 0 ((if_neg c_5).symm) hP hS (lv_sub hl [0, 1, 2, 3] rfl)
      refine lv_aload_n hx hb dX2_sum_23 rfl (lv_at hl 2 rfl) ?_
      refine xk_getO hAt hK (b100 hP) (C := RX2) (T := TX2) (N := 7) rfl 0 (by decide) (v := .ref (ad 101)) rfl (hts _ q109) (fun _ h => h) in_X2 dX2_sum_24 ?_
      refine lv_iload_n hx hb dX2_sum_27 rfl (lv_at hl 0 rfl) ?_
      refine xk_crF hAt hK (P := bP D ad ρ σ nw n) hP hA hS (xk_recvL hK (bcl hP)) (As := [.int (nI i4)]) (rest := [.int (bk_s1 nw x i4)]) (al_get l D A (bP D ad ρ σ nw n) (ad 101) (ad 104) (n 3) (fun j => ad (120 + j)) (fun _ h => bcl h) i4 (by omega) (by omega)) (va_cwF 1 hts (xk_lwF q673 q253 q255 q40 q257) rfl rfl rfl hK.2.2.2.1 (by decide +kernel) ⟨Nat.le_of_ble_eq_true rfl, Nat.le_of_ble_eq_true rfl⟩) rfl hl.1 rfl (Nat.le_of_ble_eq_true rfl) dX2_sum_28 ⟨Nat.le_refl _, Nat.le_refl _⟩ (fun r H locs hq hS => ?_)
      have hq : r = ad (120 + i4) ∧ bP D ad ρ σ nw n H := hq
      obtain ⟨rfl, hP⟩ := hq
      refine xk_cast hAt hK (bcell hP i4 (by omega)) rfl rfl (hts _ q688) dX2_sum_33 ?_
      refine xk_getN hAt hK (bcell hP i4 (by omega)) (C := RX4) (T := TX4) (N := 7) rfl 5 (by decide) (v := .int (nw (40 + i4))) rfl q544 (fun _ h => h) in_X4 dX2_sum_36 ?_
      refine lv_goto (tgt := 43) hx hb dX2_sum_39 (by decide) ?_
      exact J43_6 _ _ _ (nw (40 + i4)) ((if_pos c_5).symm) hP hS (lv_sub hl [0, 1, 2, 3] rfl)
  exact L4 (n 3 + 1) 0 (by omega) (by omega)  _ _ _ 0 (rfl) hP hS (lv_sub hl [0, 1, 2, 3] rfl)
set_option maxHeartbeats 4000000 in
theorem b_isOfLibrary (l : Launch) (D : xk_G) (A : Nat → Prop) (ad : Nat → Nat) (ρ : Nat) (σ : Nat → Nat → Int32) (nw : Nat → Int32) (n : Nat → Nat) (h1m : n 1 ≤ 4) (h2m : n 2 ≤ 4) (x : Int32) : Met l yX1_isOfLibrary (ws_ yX1_isOfLibrary cX1_isOfLibrary 5 (some .boolean)) (xk_R 3 64) (xk_Pre D A (bP D ad ρ σ nw n) [.ref (ad 0), .int x]) (xk_Pi A (fun r H => r = xk_b (bk_isL σ n x) ∧ bP D ad ρ σ nw n H)) 0 0 A := by
  refine xk_startZ (by decide +kernel) (Nat.le_of_ble_eq_true rfl) (fun r H h => by rw [h.1]; exact xk_b01 _) ?_
  intro p e s m args below meth c Q hAt hin hK hA hP hR ls hl
  obtain ⟨hx, hb, hml, hown, hts⟩ := id hAt
  have hl : lv_has ls 5 [(0, .ref (ad 0)), (1, .int x)] := hl
  have hS : va_S A s.heap s.heap [] := va_S.rf
  refine lv_iconst (v := 0) hx hb dX1_isOfLibrary_0 (by decide) ?_
  refine lv_istore_n (lv' := [(2, .int 0), (0, .ref (ad 0)), (1, .int x)]) hx hb dX1_isOfLibrary_1 rfl hl (by decide) rfl (fun ls hl => ?_)
  refine lv_iconst (v := 0) hx hb dX1_isOfLibrary_2 (by decide) ?_
  refine lv_istore_n (lv' := [(3, .int 0), (2, .int 0), (0, .ref (ad 0)), (1, .int x)]) hx hb dX1_isOfLibrary_3 rfl hl (by decide) rfl (fun ls hl => ?_)
  refine lv_iconst (v := 0) hx hb dX1_isOfLibrary_4 (by decide) ?_
  refine lv_istore (lv' := [(4, .int 0), (3, .int 0), (2, .int 0), (0, .ref (ad 0)), (1, .int x)]) hx hb dX1_isOfLibrary_5 hl (by decide) rfl (fun ls hl => ?_)
  have L7 : ∀ (fu i7 : Nat), n 1 + 1 ≤ i7 + fu → i7 ≤ n 1 → ∀ (H : Heap) (locs : List Loc) (ls : Array Slot) (v2 : Int32), v2 = bk_l1 σ x i7 → bP D ad ρ σ nw n H → va_S A s.heap H locs → lv_has ls 5 [(4, .int (nI i7)), (3, .int 0), (2, .int v2), (0, .ref (ad 0)), (1, .int x)] → W p l e (xk_R 3 64) s m args below meth c H locs 0 0 Q (F0 m 7 ls []) := by
    intro fu
    induction fu with
    | zero => intro i7 h7a h7b; exact absurd h7a (by omega)
    | succ fu ih7 =>
      intro i7 h7a h7b  H locs ls v2 ev2 hP hS hl
      subst ev2
      refine lv_iload hx hb dX1_isOfLibrary_7 (lv_at hl 0 rfl) ?_
      refine lv_aload_n hx hb dX1_isOfLibrary_9 rfl (lv_at hl 3 rfl) ?_
      refine xk_getO hAt hK (b0 hP) (C := RX1) (T := TX1) (N := 6) rfl 3 (by decide) (v := .ref (ad 8)) rfl (hts _ q140) (fun _ h => h) in_X1 dX1_isOfLibrary_10 ?_
      refine xk_ciF hAt hK (P := bP D ad ρ σ nw n) hP hA hS (xk_recvL hK (bsg hP)) (As := []) (rest := [.int (nI i7)]) (al_size l D A (bP D ad ρ σ nw n) (ad 8) (ad 11) (n 1) (fun j => ad (30 + j)) (fun _ h => bsg h)) (va_cwF 0 hts (xk_lwF q236 q240 q242 q40 q244) rfl rfl rfl hK.2.2.1 (by decide +kernel) ⟨Nat.le_of_ble_eq_true rfl, Nat.le_of_ble_eq_true rfl⟩) rfl hl.1 rfl (Nat.le_of_ble_eq_true rfl) dX1_isOfLibrary_13 ⟨Nat.le_refl _, Nat.le_refl _⟩ (fun r H locs hq hS => ?_)
      obtain ⟨rfl, hP⟩ := hq
      refine mk_ge (tgt := 59) (a := i7) (b := n 1) hx hb (by omega) (by omega) dX1_isOfLibrary_18 (by decide) (fun c_1 => ?_) (fun c_1 => ?_)
      · skip
        obtain rfl : i7 = n 1 := by omega
        refine lv_iconst (v := 0) hx hb dX1_isOfLibrary_59 (by decide) ?_
        refine lv_istore (lv' := [(4, .int 0), (3, .int 0), (2, .int (bk_l1 σ x (n 1))), (0, .ref (ad 0)), (1, .int x)]) hx hb dX1_isOfLibrary_60 hl (by decide) rfl (fun ls hl => ?_)
        have L62 : ∀ (fu i62 : Nat), n 2 + 1 ≤ i62 + fu → i62 ≤ n 2 → ∀ (H : Heap) (locs : List Loc) (ls : Array Slot) (v3 : Int32), v3 = bk_l2 σ x i62 → bP D ad ρ σ nw n H → va_S A s.heap H locs → lv_has ls 5 [(4, .int (nI i62)), (3, .int v3), (2, .int (bk_l1 σ x (n 1))), (0, .ref (ad 0)), (1, .int x)] → W p l e (xk_R 3 64) s m args below meth c H locs 0 0 Q (F0 m 62 ls []) := by
          intro fu
          induction fu with
          | zero => intro i62 h62a h62b; exact absurd h62a (by omega)
          | succ fu ih62 =>
            intro i62 h62a h62b  H locs ls v3 ev3 hP hS hl
            subst ev3
            refine lv_iload hx hb dX1_isOfLibrary_62 (lv_at hl 0 rfl) ?_
            refine lv_aload_n hx hb dX1_isOfLibrary_64 rfl (lv_at hl 3 rfl) ?_
            refine xk_getO hAt hK (b0 hP) (C := RX1) (T := TX1) (N := 6) rfl 4 (by decide) (v := .ref (ad 9)) rfl (hts _ q141) (fun _ h => h) in_X1 dX1_isOfLibrary_65 ?_
            refine xk_ciF hAt hK (P := bP D ad ρ σ nw n) hP hA hS (xk_recvL hK (bjo hP)) (As := []) (rest := [.int (nI i62)]) (al_size l D A (bP D ad ρ σ nw n) (ad 9) (ad 12) (n 2) (fun j => ad (40 + j)) (fun _ h => bjo h)) (va_cwF 0 hts (xk_lwF q236 q240 q242 q40 q244) rfl rfl rfl hK.2.2.1 (by decide +kernel) ⟨Nat.le_of_ble_eq_true rfl, Nat.le_of_ble_eq_true rfl⟩) rfl hl.1 rfl (Nat.le_of_ble_eq_true rfl) dX1_isOfLibrary_68 ⟨Nat.le_refl _, Nat.le_refl _⟩ (fun r H locs hq hS => ?_)
            obtain ⟨rfl, hP⟩ := hq
            refine mk_ge (tgt := 115) (a := i62) (b := n 2) hx hb (by omega) (by omega) dX1_isOfLibrary_73 (by decide) (fun c_2 => ?_) (fun c_2 => ?_)
            · skip
              obtain rfl : i62 = n 2 := by omega
              refine lv_iload_n hx hb dX1_isOfLibrary_115 rfl (lv_at hl 2 rfl) ?_
              have J128_4 : ∀ (H : Heap) (locs : List Loc) (ls : Array Slot) (t0 : Int32), t0 = xk_b (¬ (bk_l1 σ x (n 1) = 0) ∧ ¬ (bk_l2 σ x (n 2) = 0)) → bP D ad ρ σ nw n H → va_S A s.heap H locs → lv_has ls 5 [(4, .int (nI (n 2))), (3, .int (bk_l2 σ x (n 2))), (2, .int (bk_l1 σ x (n 1))), (0, .ref (ad 0)), (1, .int x)] → W p l e (xk_R 3 64) s m args below meth c H locs 0 0 Q (F0 m 128 ls [.int t0]) := by
                intro H locs ls t0 et0 hP hS hl
                subst et0
                exact hR _ _ _ _ _ dX1_isOfLibrary_128 (⟨rfl, hP⟩) hS
              refine lv_if_eq (tgt := 127) hx hb dX1_isOfLibrary_116 (by decide) (fun c_3 => ?_) (fun c_3 => ?_)
              · skip
                refine lv_iconst (v := 0) hx hb dX1_isOfLibrary_127 (by decide) ?_
                exact J128_4 _ _ _ 0 ((if_neg (fun h => h.1 c_3)).symm) hP hS (lv_sub hl [0, 1, 2, 3, 4] rfl)
              refine lv_iload_n hx hb dX1_isOfLibrary_119 rfl (lv_at hl 1 rfl) ?_
              refine lv_if_eq (tgt := 127) hx hb dX1_isOfLibrary_120 (by decide) (fun c_5 => ?_) (fun c_5 => ?_)
              · skip
                refine lv_iconst (v := 0) hx hb dX1_isOfLibrary_127 (by decide) ?_
                exact J128_4 _ _ _ 0 ((if_neg (fun h => (fun h => h c_5) h.2)).symm) hP hS (lv_sub hl [0, 1, 2, 3, 4] rfl)
              refine lv_iconst (v := 1) hx hb dX1_isOfLibrary_123 (by decide) ?_
              refine lv_goto (tgt := 128) hx hb dX1_isOfLibrary_124 (by decide) ?_
              exact J128_4 _ _ _ 1 ((if_pos ⟨c_3, c_5⟩).symm) hP hS (lv_sub hl [0, 1, 2, 3, 4] rfl)
            refine lv_iload_n hx hb dX1_isOfLibrary_76 rfl (lv_at hl 1 rfl) ?_
            refine lv_aload_n hx hb dX1_isOfLibrary_77 rfl (lv_at hl 3 rfl) ?_
            refine xk_getO hAt hK (b0 hP) (C := RX1) (T := TX1) (N := 6) rfl 4 (by decide) (v := .ref (ad 9)) rfl (hts _ q141) (fun _ h => h) in_X1 dX1_isOfLibrary_78 ?_
            refine lv_iload hx hb dX1_isOfLibrary_81 (lv_at hl 0 rfl) ?_
            refine xk_crF hAt hK (P := bP D ad ρ σ nw n) hP hA hS (xk_recvL hK (bjo hP)) (As := [.int (nI i62)]) (rest := [.int (bk_l2 σ x i62)]) (al_get l D A (bP D ad ρ σ nw n) (ad 9) (ad 12) (n 2) (fun j => ad (40 + j)) (fun _ h => bjo h) i62 (by omega) (by omega)) (va_cwF 1 hts (xk_lwF q250 q253 q255 q40 q257) rfl rfl rfl hK.2.2.2.1 (by decide +kernel) ⟨Nat.le_of_ble_eq_true rfl, Nat.le_of_ble_eq_true rfl⟩) rfl hl.1 rfl (Nat.le_of_ble_eq_true rfl) dX1_isOfLibrary_83 ⟨Nat.le_refl _, Nat.le_refl _⟩ (fun r H locs hq hS => ?_)
            have hq : r = ad (40 + i62) ∧ bP D ad ρ σ nw n H := hq
            obtain ⟨rfl, hP⟩ := hq
            refine xk_castX hAt hK (bxj hP i62 (by omega)) (hts _ q268) dX1_isOfLibrary_88 ?_
            refine xk_ciV hAt hK (P := bP D ad ρ σ nw n) hP hA hS (xk_recvX hK (bxj hP i62 (by omega))) (As := []) (rest := [.int (bk_l2 σ x i62)]) (in_val l D A (bP D ad ρ σ nw n) (ad (40 + i62)) (σ 5 i62) (fun _ h => bxj h i62 (by omega))) (cwV 0 hts (lw_V q269 q270 q271 q49 q272) rfl rfl rfl cdJ9_intValue ⟨Nat.le_of_ble_eq_true rfl, Nat.le_of_ble_eq_true rfl⟩) rfl hl.1 rfl (Nat.le_of_ble_eq_true rfl) dX1_isOfLibrary_91 ⟨Nat.le_refl _, Nat.le_refl _⟩ (fun r H locs hq hS => ?_)
            obtain ⟨rfl, hP⟩ := hq
            refine lv_iload_n hx hb dX1_isOfLibrary_94 rfl (lv_at hl 4 rfl) ?_
            refine lv_iconst (v := 2) hx hb dX1_isOfLibrary_95 (by decide) ?_
            refine mk_ciS hAt hK (P := bP D ad ρ σ nw n) hP hA hS (As := [.int x, .int 2]) (rest := [.int (σ 5 i62), .int (bk_l2 σ x i62)]) (b_letterOf l D A (bP D ad ρ σ nw n) x 2) (va_cwS 2 hts (lw_S q281 q282 q37 q283) rfl rfl rfl cdX1_letterOf ⟨Nat.le_of_ble_eq_true rfl, Nat.le_of_ble_eq_true rfl⟩) rfl hl.1 rfl (Nat.le_of_ble_eq_true rfl) dX1_isOfLibrary_96 ⟨Nat.le_refl _, Nat.le_refl _⟩ (fun r H locs hq hS => ?_)
            obtain ⟨rfl, hP⟩ := hq
            have J107_7 : ∀ (H : Heap) (locs : List Loc) (ls : Array Slot) (t0 : Int32), t0 = xk_b (σ 5 i62 = nI (mk_ln x 2)) → bP D ad ρ σ nw n H → va_S A s.heap H locs → lv_has ls 5 [(4, .int (nI i62)), (3, .int (bk_l2 σ x i62)), (2, .int (bk_l1 σ x (n 1))), (0, .ref (ad 0)), (1, .int x)] → W p l e (xk_R 3 64) s m args below meth c H locs 0 0 Q (F0 m 107 ls [.int t0, .int (bk_l2 σ x i62)]) := by
              intro H locs ls t0 et0 hP hS hl
              subst et0
              refine lv_ior hx hb dX1_isOfLibrary_107 ?_
              refine lv_istore_n (lv' := [(3, .int ((bk_l2 σ x i62) ||| (xk_b (σ 5 i62 = nI (mk_ln x 2))))), (4, .int (nI i62)), (2, .int (bk_l1 σ x (n 1))), (0, .ref (ad 0)), (1, .int x)]) hx hb dX1_isOfLibrary_108 rfl hl (by decide) rfl (fun ls hl => ?_)
              refine lv_iinc (v := nI (i62 + 1)) (lv' := [(4, .int (nI (i62 + 1))), (3, .int ((bk_l2 σ x i62) ||| (xk_b (σ 5 i62 = nI (mk_ln x 2))))), (2, .int (bk_l1 σ x (n 1))), (0, .ref (ad 0)), (1, .int x)]) hx hb dX1_isOfLibrary_109 hl (k := 1) rfl (xk_inc i62) (by decide) rfl (fun ls hl => ?_)
              refine lv_goto (tgt := 62) hx hb dX1_isOfLibrary_112 (by decide) ?_
              exact ih62 (i62 + 1) (by omega) (by omega)  _ _ _ ((bk_l2 σ x i62) ||| (xk_b (σ 5 i62 = nI (mk_ln x 2)))) (rfl) hP hS (lv_sub hl [0, 1, 2, 3, 4] rfl)
            refine lv_icmp_ne (tgt := 106) hx hb dX1_isOfLibrary_99 (by decide) (fun c_6 => ?_) (fun c_6 => ?_)
            · skip
              refine lv_iconst (v := 0) hx hb dX1_isOfLibrary_106 (by decide) ?_
              exact J107_7 _ _ _ 0 ((if_neg c_6).symm) hP hS (lv_sub hl [0, 1, 2, 3, 4] rfl)
            refine lv_iconst (v := 1) hx hb dX1_isOfLibrary_102 (by decide) ?_
            refine lv_goto (tgt := 107) hx hb dX1_isOfLibrary_103 (by decide) ?_
            exact J107_7 _ _ _ 1 ((if_pos c_6).symm) hP hS (lv_sub hl [0, 1, 2, 3, 4] rfl)
        exact L62 (n 2 + 1) 0 (by omega) (by omega)  _ _ _ 0 (rfl) hP hS (lv_sub hl [0, 1, 2, 3, 4] rfl)
      refine lv_iload_n hx hb dX1_isOfLibrary_21 rfl (lv_at hl 2 rfl) ?_
      refine lv_aload_n hx hb dX1_isOfLibrary_22 rfl (lv_at hl 3 rfl) ?_
      refine xk_getO hAt hK (b0 hP) (C := RX1) (T := TX1) (N := 6) rfl 3 (by decide) (v := .ref (ad 8)) rfl (hts _ q140) (fun _ h => h) in_X1 dX1_isOfLibrary_23 ?_
      refine lv_iload hx hb dX1_isOfLibrary_26 (lv_at hl 0 rfl) ?_
      refine xk_crF hAt hK (P := bP D ad ρ σ nw n) hP hA hS (xk_recvL hK (bsg hP)) (As := [.int (nI i7)]) (rest := [.int (bk_l1 σ x i7)]) (al_get l D A (bP D ad ρ σ nw n) (ad 8) (ad 11) (n 1) (fun j => ad (30 + j)) (fun _ h => bsg h) i7 (by omega) (by omega)) (va_cwF 1 hts (xk_lwF q250 q253 q255 q40 q257) rfl rfl rfl hK.2.2.2.1 (by decide +kernel) ⟨Nat.le_of_ble_eq_true rfl, Nat.le_of_ble_eq_true rfl⟩) rfl hl.1 rfl (Nat.le_of_ble_eq_true rfl) dX1_isOfLibrary_28 ⟨Nat.le_refl _, Nat.le_refl _⟩ (fun r H locs hq hS => ?_)
      have hq : r = ad (30 + i7) ∧ bP D ad ρ σ nw n H := hq
      obtain ⟨rfl, hP⟩ := hq
      refine xk_castX hAt hK (bxs hP i7 (by omega)) (hts _ q268) dX1_isOfLibrary_33 ?_
      refine xk_ciV hAt hK (P := bP D ad ρ σ nw n) hP hA hS (xk_recvX hK (bxs hP i7 (by omega))) (As := []) (rest := [.int (bk_l1 σ x i7)]) (in_val l D A (bP D ad ρ σ nw n) (ad (30 + i7)) (((σ 3 i7) + (4 * (σ 4 i7)))) (fun _ h => bxs h i7 (by omega))) (cwV 0 hts (lw_V q269 q270 q271 q49 q272) rfl rfl rfl cdJ9_intValue ⟨Nat.le_of_ble_eq_true rfl, Nat.le_of_ble_eq_true rfl⟩) rfl hl.1 rfl (Nat.le_of_ble_eq_true rfl) dX1_isOfLibrary_36 ⟨Nat.le_refl _, Nat.le_refl _⟩ (fun r H locs hq hS => ?_)
      obtain ⟨rfl, hP⟩ := hq
      refine lv_iload_n hx hb dX1_isOfLibrary_39 rfl (lv_at hl 4 rfl) ?_
      refine lv_bipush (v := 16) hx hb dX1_isOfLibrary_40 (by decide) ?_
      refine lv_irem hx hb dX1_isOfLibrary_42 (by decide) ?_
      have J51_9 : ∀ (H : Heap) (locs : List Loc) (ls : Array Slot) (t0 : Int32), t0 = xk_b (((σ 3 i7) + (4 * (σ 4 i7))) = (x - x / 16 * 16)) → bP D ad ρ σ nw n H → va_S A s.heap H locs → lv_has ls 5 [(4, .int (nI i7)), (3, .int 0), (2, .int (bk_l1 σ x i7)), (0, .ref (ad 0)), (1, .int x)] → W p l e (xk_R 3 64) s m args below meth c H locs 0 0 Q (F0 m 51 ls [.int t0, .int (bk_l1 σ x i7)]) := by
        intro H locs ls t0 et0 hP hS hl
        subst et0
        refine lv_ior hx hb dX1_isOfLibrary_51 ?_
        refine lv_istore_n (lv' := [(2, .int ((bk_l1 σ x i7) ||| (xk_b (((σ 3 i7) + (4 * (σ 4 i7))) = (x - x / 16 * 16))))), (4, .int (nI i7)), (3, .int 0), (0, .ref (ad 0)), (1, .int x)]) hx hb dX1_isOfLibrary_52 rfl hl (by decide) rfl (fun ls hl => ?_)
        refine lv_iinc (v := nI (i7 + 1)) (lv' := [(4, .int (nI (i7 + 1))), (2, .int ((bk_l1 σ x i7) ||| (xk_b (((σ 3 i7) + (4 * (σ 4 i7))) = (x - x / 16 * 16))))), (3, .int 0), (0, .ref (ad 0)), (1, .int x)]) hx hb dX1_isOfLibrary_53 hl (k := 1) rfl (xk_inc i7) (by decide) rfl (fun ls hl => ?_)
        refine lv_goto (tgt := 7) hx hb dX1_isOfLibrary_56 (by decide) ?_
        exact ih7 (i7 + 1) (by omega) (by omega)  _ _ _ ((bk_l1 σ x i7) ||| (xk_b (((σ 3 i7) + (4 * (σ 4 i7))) = (x - x / 16 * 16)))) (rfl) hP hS (lv_sub hl [0, 2, 1, 3, 4] rfl)
      refine lv_icmp_ne (tgt := 50) hx hb dX1_isOfLibrary_43 (by decide) (fun c_8 => ?_) (fun c_8 => ?_)
      · skip
        refine lv_iconst (v := 0) hx hb dX1_isOfLibrary_50 (by decide) ?_
        exact J51_9 _ _ _ 0 ((if_neg c_8).symm) hP hS (lv_sub hl [0, 1, 2, 3, 4] rfl)
      refine lv_iconst (v := 1) hx hb dX1_isOfLibrary_46 (by decide) ?_
      refine lv_goto (tgt := 51) hx hb dX1_isOfLibrary_47 (by decide) ?_
      exact J51_9 _ _ _ 1 ((if_pos c_8).symm) hP hS (lv_sub hl [0, 1, 2, 3, 4] rfl)
  exact L7 (n 1 + 1) 0 (by omega) (by omega)  _ _ _ 0 (rfl) hP hS (lv_sub hl [0, 1, 2, 3, 4] rfl)
set_option maxHeartbeats 4000000 in
theorem b_isHole (l : Launch) (D : xk_G) (A : Nat → Prop) (ad : Nat → Nat) (ρ : Nat) (σ : Nat → Nat → Int32) (nw : Nat → Int32) (n : Nat → Nat) (h0m : n 0 ≤ 8) (h1m : n 1 ≤ 4) (h2m : n 2 ≤ 4) (x : Int32) (hx0 : mk_in x 0 255) : Met l yX1_isHole (ws_ yX1_isHole cX1_isHole 7 (some .boolean)) (xk_R 5 109) (xk_Pre D A (bP D ad ρ σ nw n) [.ref (ad 0), .int x]) (xk_Pi A (fun r H => r = xk_b (bk_hole σ n x) ∧ bP D ad ρ σ nw n H)) 0 0 A := by
  refine xk_startZ (by decide +kernel) (Nat.le_of_ble_eq_true rfl) (fun r H h => by rw [h.1]; exact xk_b01 _) ?_
  intro p e s m args below meth c Q hAt hin hK hA hP hR ls hl
  obtain ⟨hx, hb, hml, hown, hts⟩ := id hAt
  have hl : lv_has ls 7 [(0, .ref (ad 0)), (1, .int x)] := hl
  have hS : va_S A s.heap s.heap [] := va_S.rf
  refine lv_iload_n hx hb dX1_isHole_0 rfl (lv_at hl 1 rfl) ?_
  refine xk_cvS hAt hK (P := bP D ad ρ σ nw n) hP hA hS (As := [.int x]) (rest := []) (b_checkWord l D A (bP D ad ρ σ nw n) x (by assumption)) (va_cwS 1 hts (lw_S q164 q165 q37 q166) rfl rfl rfl cdX1_checkWord ⟨Nat.le_of_ble_eq_true rfl, Nat.le_of_ble_eq_true rfl⟩) rfl hl.1 rfl (Nat.le_of_ble_eq_true rfl) dX1_isHole_1 ⟨Nat.le_refl _, Nat.le_refl _⟩ (fun H locs hP hS => ?_)
  refine lv_iconst (v := 0) hx hb dX1_isHole_4 (by decide) ?_
  refine lv_istore_n (lv' := [(2, .int 0), (0, .ref (ad 0)), (1, .int x)]) hx hb dX1_isHole_5 rfl hl (by decide) rfl (fun ls hl => ?_)
  refine lv_iconst (v := 0) hx hb dX1_isHole_6 (by decide) ?_
  refine lv_istore_n (lv' := [(3, .int 0), (2, .int 0), (0, .ref (ad 0)), (1, .int x)]) hx hb dX1_isHole_7 rfl hl (by decide) rfl (fun ls hl => ?_)
  have L8 : ∀ (fu i8 : Nat), n 1 + 1 ≤ i8 + fu → i8 ≤ n 1 → ∀ (H : Heap) (locs : List Loc) (ls : Array Slot) (v2 : Int32), v2 = bk_o1 σ n x i8 → bP D ad ρ σ nw n H → va_S A s.heap H locs → lv_has ls 7 [(3, .int (nI i8)), (2, .int v2), (0, .ref (ad 0)), (1, .int x)] → W p l e (xk_R 5 109) s m args below meth c H locs 0 0 Q (F0 m 8 ls []) := by
    intro fu
    induction fu with
    | zero => intro i8 h8a h8b; exact absurd h8a (by omega)
    | succ fu ih8 =>
      intro i8 h8a h8b  H locs ls v2 ev2 hP hS hl
      subst ev2
      refine lv_iload_n hx hb dX1_isHole_8 rfl (lv_at hl 0 rfl) ?_
      refine lv_aload_n hx hb dX1_isHole_9 rfl (lv_at hl 2 rfl) ?_
      refine xk_getO hAt hK (b0 hP) (C := RX1) (T := TX1) (N := 6) rfl 3 (by decide) (v := .ref (ad 8)) rfl (hts _ q140) (fun _ h => h) in_X1 dX1_isHole_10 ?_
      refine xk_ciF hAt hK (P := bP D ad ρ σ nw n) hP hA hS (xk_recvL hK (bsg hP)) (As := []) (rest := [.int (nI i8)]) (al_size l D A (bP D ad ρ σ nw n) (ad 8) (ad 11) (n 1) (fun j => ad (30 + j)) (fun _ h => bsg h)) (va_cwF 0 hts (xk_lwF q236 q240 q242 q40 q244) rfl rfl rfl hK.2.2.1 (by decide +kernel) ⟨Nat.le_of_ble_eq_true rfl, Nat.le_of_ble_eq_true rfl⟩) rfl hl.1 rfl (Nat.le_of_ble_eq_true rfl) dX1_isHole_13 ⟨Nat.le_refl _, Nat.le_refl _⟩ (fun r H locs hq hS => ?_)
      obtain ⟨rfl, hP⟩ := hq
      refine mk_ge (tgt := 104) (a := i8) (b := n 1) hx hb (by omega) (by omega) dX1_isHole_18 (by decide) (fun c_1 => ?_) (fun c_1 => ?_)
      · skip
        obtain rfl : i8 = n 1 := by omega
        refine lv_iload_n hx hb dX1_isHole_104 rfl (lv_at hl 1 rfl) ?_
        have J113_3 : ∀ (H : Heap) (locs : List Loc) (ls : Array Slot) (t0 : Int32), t0 = xk_b (bk_o1 σ n x (n 1) = 0) → bP D ad ρ σ nw n H → va_S A s.heap H locs → lv_has ls 7 [(3, .int (nI (n 1))), (2, .int (bk_o1 σ n x (n 1))), (0, .ref (ad 0)), (1, .int x)] → W p l e (xk_R 5 109) s m args below meth c H locs 0 0 Q (F0 m 113 ls [.int t0]) := by
          intro H locs ls t0 et0 hP hS hl
          subst et0
          exact hR _ _ _ _ _ dX1_isHole_113 (⟨rfl, hP⟩) hS
        refine lv_if_ne (tgt := 112) hx hb dX1_isHole_105 (by decide) (fun c_2 => ?_) (fun c_2 => ?_)
        · skip
          refine lv_iconst (v := 0) hx hb dX1_isHole_112 (by decide) ?_
          exact J113_3 _ _ _ 0 ((if_neg c_2).symm) hP hS (lv_sub hl [0, 1, 2, 3] rfl)
        refine lv_iconst (v := 1) hx hb dX1_isHole_108 (by decide) ?_
        refine lv_goto (tgt := 113) hx hb dX1_isHole_109 (by decide) ?_
        exact J113_3 _ _ _ 1 ((if_pos c_2).symm) hP hS (lv_sub hl [0, 1, 2, 3] rfl)
      refine lv_iconst (v := 0) hx hb dX1_isHole_21 (by decide) ?_
      refine lv_istore (lv' := [(4, .int 0), (3, .int (nI i8)), (2, .int (bk_o1 σ n x i8)), (0, .ref (ad 0)), (1, .int x)]) hx hb dX1_isHole_22 hl (by decide) rfl (fun ls hl => ?_)
      have L24 : ∀ (fu i24 : Nat), n 2 + 1 ≤ i24 + fu → i24 ≤ n 2 → ∀ (H : Heap) (locs : List Loc) (ls : Array Slot) (v2 : Int32), v2 = bk_o2 σ n x i8 (bk_o1 σ n x i8) i24 → bP D ad ρ σ nw n H → va_S A s.heap H locs → lv_has ls 7 [(4, .int (nI i24)), (3, .int (nI i8)), (2, .int v2), (0, .ref (ad 0)), (1, .int x)] → W p l e (xk_R 5 109) s m args below meth c H locs 0 0 Q (F0 m 24 ls []) := by
        intro fu
        induction fu with
        | zero => intro i24 h24a h24b; exact absurd h24a (by omega)
        | succ fu ih24 =>
          intro i24 h24a h24b  H locs ls v2 ev2 hP hS hl
          subst ev2
          refine lv_iload hx hb dX1_isHole_24 (lv_at hl 0 rfl) ?_
          refine lv_aload_n hx hb dX1_isHole_26 rfl (lv_at hl 3 rfl) ?_
          refine xk_getO hAt hK (b0 hP) (C := RX1) (T := TX1) (N := 6) rfl 4 (by decide) (v := .ref (ad 9)) rfl (hts _ q141) (fun _ h => h) in_X1 dX1_isHole_27 ?_
          refine xk_ciF hAt hK (P := bP D ad ρ σ nw n) hP hA hS (xk_recvL hK (bjo hP)) (As := []) (rest := [.int (nI i24)]) (al_size l D A (bP D ad ρ σ nw n) (ad 9) (ad 12) (n 2) (fun j => ad (40 + j)) (fun _ h => bjo h)) (va_cwF 0 hts (xk_lwF q236 q240 q242 q40 q244) rfl rfl rfl hK.2.2.1 (by decide +kernel) ⟨Nat.le_of_ble_eq_true rfl, Nat.le_of_ble_eq_true rfl⟩) rfl hl.1 rfl (Nat.le_of_ble_eq_true rfl) dX1_isHole_30 ⟨Nat.le_refl _, Nat.le_refl _⟩ (fun r H locs hq hS => ?_)
          obtain ⟨rfl, hP⟩ := hq
          refine mk_ge (tgt := 98) (a := i24) (b := n 2) hx hb (by omega) (by omega) dX1_isHole_35 (by decide) (fun c_4 => ?_) (fun c_4 => ?_)
          · skip
            obtain rfl : i24 = n 2 := by omega
            refine lv_iinc (v := nI (i8 + 1)) (lv' := [(3, .int (nI (i8 + 1))), (4, .int (nI (n 2))), (2, .int (bk_o2 σ n x i8 (bk_o1 σ n x i8) (n 2))), (0, .ref (ad 0)), (1, .int x)]) hx hb dX1_isHole_98 hl (k := 1) rfl (xk_inc i8) (by decide) rfl (fun ls hl => ?_)
            refine lv_goto (tgt := 8) hx hb dX1_isHole_101 (by decide) ?_
            exact ih8 (i8 + 1) (by omega) (by omega)  _ _ _ (bk_o2 σ n x i8 (bk_o1 σ n x i8) (n 2)) (rfl) hP hS (lv_sub hl [0, 2, 3, 4] rfl)
          refine lv_iconst (v := 0) hx hb dX1_isHole_38 (by decide) ?_
          refine lv_istore (lv' := [(5, .int 0), (4, .int (nI i24)), (3, .int (nI i8)), (2, .int (bk_o2 σ n x i8 (bk_o1 σ n x i8) i24)), (0, .ref (ad 0)), (1, .int x)]) hx hb dX1_isHole_39 hl (by decide) rfl (fun ls hl => ?_)
          have L41 : ∀ (fu i41 : Nat), 4 + 1 ≤ i41 + fu → i41 ≤ 4 → ∀ (H : Heap) (locs : List Loc) (ls : Array Slot) (v2 : Int32), v2 = bk_o3 σ n x i8 i24 (bk_o2 σ n x i8 (bk_o1 σ n x i8) i24) i41 → bP D ad ρ σ nw n H → va_S A s.heap H locs → lv_has ls 7 [(5, .int (nI i41)), (4, .int (nI i24)), (3, .int (nI i8)), (2, .int v2), (0, .ref (ad 0)), (1, .int x)] → W p l e (xk_R 5 109) s m args below meth c H locs 0 0 Q (F0 m 41 ls []) := by
            intro fu
            induction fu with
            | zero => intro i41 h41a h41b; exact absurd h41a (by omega)
            | succ fu ih41 =>
              intro i41 h41a h41b  H locs ls v2 ev2 hP hS hl
              subst ev2
              refine lv_iload hx hb dX1_isHole_41 (lv_at hl 0 rfl) ?_
              refine lv_iconst (v := 4) hx hb dX1_isHole_43 (by decide) ?_
              refine mk_ge (tgt := 92) (a := i41) (b := 4) hx hb (by omega) (by omega) dX1_isHole_44 (by decide) (fun c_5 => ?_) (fun c_5 => ?_)
              · skip
                obtain rfl : i41 = 4 := by omega
                refine lv_iinc (v := nI (i24 + 1)) (lv' := [(4, .int (nI (i24 + 1))), (5, .int (nI 4)), (3, .int (nI i8)), (2, .int (bk_o3 σ n x i8 i24 (bk_o2 σ n x i8 (bk_o1 σ n x i8) i24) 4)), (0, .ref (ad 0)), (1, .int x)]) hx hb dX1_isHole_92 hl (k := 1) rfl (xk_inc i24) (by decide) rfl (fun ls hl => ?_)
                refine lv_goto (tgt := 24) hx hb dX1_isHole_95 (by decide) ?_
                exact ih24 (i24 + 1) (by omega) (by omega)  _ _ _ (bk_o3 σ n x i8 i24 (bk_o2 σ n x i8 (bk_o1 σ n x i8) i24) 4) (rfl) hP hS (lv_sub hl [0, 2, 3, 4, 5] rfl)
              refine lv_aload_n hx hb dX1_isHole_47 rfl (lv_at hl 4 rfl) ?_
              refine lv_iload_n hx hb dX1_isHole_48 rfl (lv_at hl 2 rfl) ?_
              refine lv_iload hx hb dX1_isHole_49 (lv_at hl 1 rfl) ?_
              refine lv_iload hx hb dX1_isHole_51 (lv_at hl 0 rfl) ?_
              refine xk_ciV hAt hK (P := bP D ad ρ σ nw n) hP hA hS (xk_recv (q := (RX1, TX1, 6)) hK (b0 hP) rfl) (As := [.int (nI i8), .int (nI i24), .int (nI i41)]) (rest := []) (b_lockOf l D A ad ρ σ nw n (by assumption) (by assumption) i8 i24 (by omega) (by omega) (nI i41)) (cwV 3 hts (lw_V q245 q247 qs1 q37 q248) rfl rfl rfl cdX1_lockOf ⟨Nat.le_of_ble_eq_true rfl, Nat.le_of_ble_eq_true rfl⟩) rfl hl.1 rfl (Nat.le_of_ble_eq_true rfl) dX1_isHole_53 ⟨Nat.le_refl _, Nat.le_refl _⟩ (fun r H locs hq hS => ?_)
              obtain ⟨rfl, hP⟩ := hq
              refine lv_istore (lv' := [(6, .int (bk_lock σ i8 i24 (nI i41))), (5, .int (nI i41)), (4, .int (nI i24)), (3, .int (nI i8)), (2, .int (bk_o3 σ n x i8 i24 (bk_o2 σ n x i8 (bk_o1 σ n x i8) i24) i41)), (0, .ref (ad 0)), (1, .int x)]) hx hb dX1_isHole_56 hl (by decide) rfl (fun ls hl => ?_)
              refine lv_iload_n hx hb dX1_isHole_58 rfl (lv_at hl 4 rfl) ?_
              refine lv_aload_n hx hb dX1_isHole_59 rfl (lv_at hl 5 rfl) ?_
              refine lv_iload hx hb dX1_isHole_60 (lv_at hl 0 rfl) ?_
              refine lv_iload_n hx hb dX1_isHole_62 rfl (lv_at hl 6 rfl) ?_
              refine xk_ciV hAt hK (P := bP D ad ρ σ nw n) hP hA hS (xk_recv (q := (RX1, TX1, 6)) hK (b0 hP) rfl) (As := [.int (bk_lock σ i8 i24 (nI i41)), .int x]) (rest := [.int (bk_o3 σ n x i8 i24 (bk_o2 σ n x i8 (bk_o1 σ n x i8) i24) i41)]) (b_touches l D A ad ρ σ nw n (bk_lock σ i8 i24 (nI i41)) x) (cwV 2 hts (lw_V q273 q275 qs2 q37 q276) rfl rfl rfl cdX1_touches ⟨Nat.le_of_ble_eq_true rfl, Nat.le_of_ble_eq_true rfl⟩) rfl hl.1 rfl (Nat.le_of_ble_eq_true rfl) dX1_isHole_63 ⟨Nat.le_refl _, Nat.le_refl _⟩ (fun r H locs hq hS => ?_)
              obtain ⟨rfl, hP⟩ := hq
              have J84_7 : ∀ (H : Heap) (locs : List Loc) (ls : Array Slot) (t0 : Int32), t0 = xk_b (mk_tch σ (bk_lock σ i8 i24 (nI i41)) x ∧ mk_school σ (mk_near σ n (bk_lock σ i8 i24 (nI i41))) = 2) → bP D ad ρ σ nw n H → va_S A s.heap H locs → lv_has ls 7 [(6, .int (bk_lock σ i8 i24 (nI i41))), (5, .int (nI i41)), (4, .int (nI i24)), (3, .int (nI i8)), (2, .int (bk_o3 σ n x i8 i24 (bk_o2 σ n x i8 (bk_o1 σ n x i8) i24) i41)), (0, .ref (ad 0)), (1, .int x)] → W p l e (xk_R 5 109) s m args below meth c H locs 0 0 Q (F0 m 84 ls [.int t0, .int (bk_o3 σ n x i8 i24 (bk_o2 σ n x i8 (bk_o1 σ n x i8) i24) i41)]) := by
                intro H locs ls t0 et0 hP hS hl
                subst et0
                refine lv_ior hx hb dX1_isHole_84 ?_
                refine lv_istore_n (lv' := [(2, .int ((bk_o3 σ n x i8 i24 (bk_o2 σ n x i8 (bk_o1 σ n x i8) i24) i41) ||| (xk_b (mk_tch σ (bk_lock σ i8 i24 (nI i41)) x ∧ mk_school σ (mk_near σ n (bk_lock σ i8 i24 (nI i41))) = 2)))), (6, .int (bk_lock σ i8 i24 (nI i41))), (5, .int (nI i41)), (4, .int (nI i24)), (3, .int (nI i8)), (0, .ref (ad 0)), (1, .int x)]) hx hb dX1_isHole_85 rfl hl (by decide) rfl (fun ls hl => ?_)
                refine lv_iinc (v := nI (i41 + 1)) (lv' := [(5, .int (nI (i41 + 1))), (2, .int ((bk_o3 σ n x i8 i24 (bk_o2 σ n x i8 (bk_o1 σ n x i8) i24) i41) ||| (xk_b (mk_tch σ (bk_lock σ i8 i24 (nI i41)) x ∧ mk_school σ (mk_near σ n (bk_lock σ i8 i24 (nI i41))) = 2)))), (6, .int (bk_lock σ i8 i24 (nI i41))), (4, .int (nI i24)), (3, .int (nI i8)), (0, .ref (ad 0)), (1, .int x)]) hx hb dX1_isHole_86 hl (k := 2) rfl (xk_inc i41) (by decide) rfl (fun ls hl => ?_)
                refine lv_goto (tgt := 41) hx hb dX1_isHole_89 (by decide) ?_
                exact ih41 (i41 + 1) (by omega) (by omega)  _ _ _ ((bk_o3 σ n x i8 i24 (bk_o2 σ n x i8 (bk_o1 σ n x i8) i24) i41) ||| (xk_b (mk_tch σ (bk_lock σ i8 i24 (nI i41)) x ∧ mk_school σ (mk_near σ n (bk_lock σ i8 i24 (nI i41))) = 2))) (rfl) hP hS (lv_sub hl [0, 3, 4, 1, 5, 6] rfl)
              refine xk_ifeq (tgt := 83) hx hb dX1_isHole_66 (by decide) (fun c_6 => ?_) (fun c_6 => ?_)
              · skip
                refine lv_iconst (v := 0) hx hb dX1_isHole_83 (by decide) ?_
                exact J84_7 _ _ _ 0 ((if_neg (fun h => c_6 h.1)).symm) hP hS (lv_sub hl [0, 1, 2, 3, 4, 5, 6] rfl)
              refine lv_aload_n hx hb dX1_isHole_69 rfl (lv_at hl 5 rfl) ?_
              refine lv_iload hx hb dX1_isHole_70 (lv_at hl 0 rfl) ?_
              refine xk_ciV hAt hK (P := bP D ad ρ σ nw n) hP hA hS (xk_recv (q := (RX1, TX1, 6)) hK (b0 hP) rfl) (As := [.int (bk_lock σ i8 i24 (nI i41))]) (rest := [.int (bk_o3 σ n x i8 i24 (bk_o2 σ n x i8 (bk_o1 σ n x i8) i24) i41)]) (b_schooled l D A ad ρ σ nw n (by assumption) (bk_lock σ i8 i24 (nI i41))) (cwV 1 hts (lw_V q284 q286 qs4 q37 q287) rfl rfl rfl cdX1_schooled ⟨Nat.le_of_ble_eq_true rfl, Nat.le_of_ble_eq_true rfl⟩) rfl hl.1 rfl (Nat.le_of_ble_eq_true rfl) dX1_isHole_72 ⟨Nat.le_refl _, Nat.le_refl _⟩ (fun r H locs hq hS => ?_)
              obtain ⟨rfl, hP⟩ := hq
              refine lv_iconst (v := 2) hx hb dX1_isHole_75 (by decide) ?_
              refine lv_icmp_ne (tgt := 83) hx hb dX1_isHole_76 (by decide) (fun c_8 => ?_) (fun c_8 => ?_)
              · skip
                refine lv_iconst (v := 0) hx hb dX1_isHole_83 (by decide) ?_
                exact J84_7 _ _ _ 0 ((if_neg (fun h => c_8 h.2)).symm) hP hS (lv_sub hl [0, 1, 2, 3, 4, 5, 6] rfl)
              refine lv_iconst (v := 1) hx hb dX1_isHole_79 (by decide) ?_
              refine lv_goto (tgt := 84) hx hb dX1_isHole_80 (by decide) ?_
              exact J84_7 _ _ _ 1 ((if_pos ⟨c_6, c_8⟩).symm) hP hS (lv_sub hl [0, 1, 2, 3, 4, 5, 6] rfl)
          exact L41 (4 + 1) 0 (by omega) (by omega)  _ _ _ (bk_o2 σ n x i8 (bk_o1 σ n x i8) i24) (rfl) hP hS (lv_sub hl [0, 1, 2, 3, 4, 5] rfl)
      exact L24 (n 2 + 1) 0 (by omega) (by omega)  _ _ _ (bk_o1 σ n x i8) (rfl) hP hS (lv_sub hl [0, 1, 2, 3, 4] rfl)
  exact L8 (n 1 + 1) 0 (by omega) (by omega)  _ _ _ 0 (rfl) hP hS (lv_sub hl [0, 1, 2, 3] rfl)
set_option maxHeartbeats 4000000 in
theorem b_holes (l : Launch) (D : xk_G) (A : Nat → Prop) (ad : Nat → Nat) (ρ : Nat) (σ : Nat → Nat → Int32) (nw : Nat → Int32) (n : Nat → Nat) (h0m : n 0 ≤ 8) (h1m : n 1 ≤ 4) (h2m : n 2 ≤ 4) : Met l yX1_holes (ws_ yX1_holes cX1_holes 3 (some .int)) (xk_R 6 135) (xk_Pre D A (bP D ad ρ σ nw n) [.ref (ad 0)]) (xk_Pi A (fun r H => r = bk_holesR σ n 256 ∧ bP D ad ρ σ nw n H)) 0 0 A := by
  refine xk_startI (by decide +kernel) (Nat.le_of_ble_eq_true rfl) ?_
  intro p e s m args below meth c Q hAt hin hK hA hP hR ls hl
  obtain ⟨hx, hb, hml, hown, hts⟩ := id hAt
  have hl : lv_has ls 3 [(0, .ref (ad 0))] := hl
  have hS : va_S A s.heap s.heap [] := va_S.rf
  refine lv_iconst (v := 0) hx hb dX1_holes_0 (by decide) ?_
  refine lv_istore_n (lv' := [(1, .int 0), (0, .ref (ad 0))]) hx hb dX1_holes_1 rfl hl (by decide) rfl (fun ls hl => ?_)
  refine lv_iconst (v := 0) hx hb dX1_holes_2 (by decide) ?_
  refine lv_istore_n (lv' := [(2, .int 0), (1, .int 0), (0, .ref (ad 0))]) hx hb dX1_holes_3 rfl hl (by decide) rfl (fun ls hl => ?_)
  have L4 : ∀ (fu i4 : Nat), 256 + 1 ≤ i4 + fu → i4 ≤ 256 → ∀ (H : Heap) (locs : List Loc) (ls : Array Slot) (v1 : Int32), v1 = bk_holesR σ n i4 → bP D ad ρ σ nw n H → va_S A s.heap H locs → lv_has ls 3 [(2, .int (nI i4)), (1, .int v1), (0, .ref (ad 0))] → W p l e (xk_R 6 135) s m args below meth c H locs 0 0 Q (F0 m 4 ls []) := by
    intro fu
    induction fu with
    | zero => intro i4 h4a h4b; exact absurd h4a (by omega)
    | succ fu ih4 =>
      intro i4 h4a h4b  H locs ls v1 ev1 hP hS hl
      subst ev1
      refine lv_iload_n hx hb dX1_holes_4 rfl (lv_at hl 0 rfl) ?_
      refine lv_sipush (v := 256) hx hb dX1_holes_5 (by decide) ?_
      refine mk_ge (tgt := 33) (a := i4) (b := 256) hx hb (by omega) (by omega) dX1_holes_8 (by decide) (fun c_1 => ?_) (fun c_1 => ?_)
      · skip
        obtain rfl : i4 = 256 := by omega
        refine lv_iload_n hx hb dX1_holes_33 rfl (lv_at hl 1 rfl) ?_
        exact hR _ _ _ _ _ dX1_holes_34 (⟨rfl, hP⟩) hS
      refine lv_iload_n hx hb dX1_holes_11 rfl (lv_at hl 1 rfl) ?_
      refine lv_aload_n hx hb dX1_holes_12 rfl (lv_at hl 2 rfl) ?_
      refine lv_iload_n hx hb dX1_holes_13 rfl (lv_at hl 0 rfl) ?_
      refine xk_ciV hAt hK (P := bP D ad ρ σ nw n) hP hA hS (xk_recv (q := (RX1, TX1, 6)) hK (b0 hP) rfl) (As := [.int (nI i4)]) (rest := [.int (bk_holesR σ n i4)]) (b_isHole l D A ad ρ σ nw n (by assumption) (by assumption) (by assumption) (nI i4) (mk_inP (k := 255) (by omega) (by omega))) (cwV 1 hts (lw_V q160 q161 q162 q37 q163) rfl rfl rfl cdX1_isHole ⟨Nat.le_of_ble_eq_true rfl, Nat.le_of_ble_eq_true rfl⟩) rfl hl.1 rfl (Nat.le_of_ble_eq_true rfl) dX1_holes_14 ⟨Nat.le_refl _, Nat.le_refl _⟩ (fun r H locs hq hS => ?_)
      obtain ⟨rfl, hP⟩ := hq
      have J25_3 : ∀ (H : Heap) (locs : List Loc) (ls : Array Slot) (t0 : Int32), t0 = xk_b (bk_hole σ n (nI i4)) → bP D ad ρ σ nw n H → va_S A s.heap H locs → lv_has ls 3 [(2, .int (nI i4)), (1, .int (bk_holesR σ n i4)), (0, .ref (ad 0))] → W p l e (xk_R 6 135) s m args below meth c H locs 0 0 Q (F0 m 25 ls [.int t0, .int (bk_holesR σ n i4)]) := by
        intro H locs ls t0 et0 hP hS hl
        subst et0
        refine lv_iadd hx hb dX1_holes_25 ?_
        refine lv_istore_n (lv' := [(1, .int ((bk_holesR σ n i4) + (xk_b (bk_hole σ n (nI i4))))), (2, .int (nI i4)), (0, .ref (ad 0))]) hx hb dX1_holes_26 rfl hl (by decide) rfl (fun ls hl => ?_)
        refine lv_iinc (v := nI (i4 + 1)) (lv' := [(2, .int (nI (i4 + 1))), (1, .int ((bk_holesR σ n i4) + (xk_b (bk_hole σ n (nI i4))))), (0, .ref (ad 0))]) hx hb dX1_holes_27 hl (k := 1) rfl (xk_inc i4) (by decide) rfl (fun ls hl => ?_)
        refine lv_goto (tgt := 4) hx hb dX1_holes_30 (by decide) ?_
        exact ih4 (i4 + 1) (by omega) (by omega)  _ _ _ ((bk_holesR σ n i4) + (xk_b (bk_hole σ n (nI i4)))) (rfl) hP hS (lv_sub hl [0, 1, 2] rfl)
      refine xk_ifeq (tgt := 24) hx hb dX1_holes_17 (by decide) (fun c_2 => ?_) (fun c_2 => ?_)
      · skip
        refine lv_iconst (v := 0) hx hb dX1_holes_24 (by decide) ?_
        exact J25_3 _ _ _ 0 ((if_neg c_2).symm) hP hS (lv_sub hl [0, 1, 2] rfl)
      refine lv_iconst (v := 1) hx hb dX1_holes_20 (by decide) ?_
      refine lv_goto (tgt := 25) hx hb dX1_holes_21 (by decide) ?_
      exact J25_3 _ _ _ 1 ((if_pos c_2).symm) hP hS (lv_sub hl [0, 1, 2] rfl)
  exact L4 (256 + 1) 0 (by omega) (by omega)  _ _ _ 0 (rfl) hP hS (lv_sub hl [0, 1, 2] rfl)
set_option maxHeartbeats 4000000 in
theorem b_holesAnew (l : Launch) (D : xk_G) (A : Nat → Prop) (ad : Nat → Nat) (ρ : Nat) (σ : Nat → Nat → Int32) (nw : Nat → Int32) (n : Nat → Nat) (h0m : n 0 ≤ 8) (h1m : n 1 ≤ 4) (h2m : n 2 ≤ 4) : Met l yX1_holesAnew (ws_ yX1_holesAnew cX1_holesAnew 5 (some .int)) (xk_R 5 109) (xk_Pre D A (bP D ad ρ σ nw n) [.ref (ad 0)]) (xk_Pi A (fun r H => r = bk_ha σ n 256 ∧ bP D ad ρ σ nw n H)) 0 0 A := by
  refine xk_startI (by decide +kernel) (Nat.le_of_ble_eq_true rfl) ?_
  intro p e s m args below meth c Q hAt hin hK hA hP hR ls hl
  obtain ⟨hx, hb, hml, hown, hts⟩ := id hAt
  have hl : lv_has ls 5 [(0, .ref (ad 0))] := hl
  have hS : va_S A s.heap s.heap [] := va_S.rf
  refine lv_sipush (v := 256) hx hb dX1_holesAnew_0 (by decide) ?_
  refine lv_istore_n (lv' := [(1, .int 256), (0, .ref (ad 0))]) hx hb dX1_holesAnew_3 rfl hl (by decide) rfl (fun ls hl => ?_)
  refine lv_iconst (v := 0) hx hb dX1_holesAnew_4 (by decide) ?_
  refine lv_istore_n (lv' := [(2, .int 0), (1, .int 256), (0, .ref (ad 0))]) hx hb dX1_holesAnew_5 rfl hl (by decide) rfl (fun ls hl => ?_)
  have L6 : ∀ (fu i6 : Nat), 256 + 1 ≤ i6 + fu → i6 ≤ 256 → ∀ (H : Heap) (locs : List Loc) (ls : Array Slot) (v1 : Int32), v1 = bk_ha σ n i6 → bP D ad ρ σ nw n H → va_S A s.heap H locs → lv_has ls 5 [(2, .int (nI i6)), (1, .int v1), (0, .ref (ad 0))] → W p l e (xk_R 5 109) s m args below meth c H locs 0 0 Q (F0 m 6 ls []) := by
    intro fu
    induction fu with
    | zero => intro i6 h6a h6b; exact absurd h6a (by omega)
    | succ fu ih6 =>
      intro i6 h6a h6b  H locs ls v1 ev1 hP hS hl
      subst ev1
      refine lv_iload_n hx hb dX1_holesAnew_6 rfl (lv_at hl 0 rfl) ?_
      refine lv_sipush (v := 256) hx hb dX1_holesAnew_7 (by decide) ?_
      refine mk_ge (tgt := 89) (a := i6) (b := 256) hx hb (by omega) (by omega) dX1_holesAnew_10 (by decide) (fun c_1 => ?_) (fun c_1 => ?_)
      · skip
        obtain rfl : i6 = 256 := by omega
        refine lv_iload_n hx hb dX1_holesAnew_89 rfl (lv_at hl 1 rfl) ?_
        exact hR _ _ _ _ _ dX1_holesAnew_90 (⟨rfl, hP⟩) hS
      refine lv_iconst (v := 0) hx hb dX1_holesAnew_13 (by decide) ?_
      refine lv_istore_n (lv' := [(3, .int 0), (2, .int (nI i6)), (1, .int (bk_ha σ n i6)), (0, .ref (ad 0))]) hx hb dX1_holesAnew_14 rfl hl (by decide) rfl (fun ls hl => ?_)
      refine lv_iconst (v := 0) hx hb dX1_holesAnew_15 (by decide) ?_
      refine lv_istore (lv' := [(4, .int 0), (3, .int 0), (2, .int (nI i6)), (1, .int (bk_ha σ n i6)), (0, .ref (ad 0))]) hx hb dX1_holesAnew_16 hl (by decide) rfl (fun ls hl => ?_)
      have L18 : ∀ (fu i18 : Nat), 256 + 1 ≤ i18 + fu → i18 ≤ 256 → ∀ (H : Heap) (locs : List Loc) (ls : Array Slot) (v3 : Int32), v3 = bk_hx σ n (nI i6) i18 → bP D ad ρ σ nw n H → va_S A s.heap H locs → lv_has ls 5 [(4, .int (nI i18)), (3, .int v3), (2, .int (nI i6)), (1, .int (bk_ha σ n i6)), (0, .ref (ad 0))] → W p l e (xk_R 5 109) s m args below meth c H locs 0 0 Q (F0 m 18 ls []) := by
        intro fu
        induction fu with
        | zero => intro i18 h18a h18b; exact absurd h18a (by omega)
        | succ fu ih18 =>
          intro i18 h18a h18b  H locs ls v3 ev3 hP hS hl
          subst ev3
          refine lv_iload hx hb dX1_holesAnew_18 (lv_at hl 0 rfl) ?_
          refine lv_sipush (v := 256) hx hb dX1_holesAnew_20 (by decide) ?_
          have J71_3 : ∀ (H : Heap) (locs : List Loc) (ls : Array Slot) (v3 : Int32), v3 = bk_hxA σ n (nI i6) → bP D ad ρ σ nw n H → va_S A s.heap H locs → lv_has ls 5 [(4, .int (nI i18)), (3, .int v3), (2, .int (nI i6)), (1, .int (bk_ha σ n i6)), (0, .ref (ad 0))] → W p l e (xk_R 5 109) s m args below meth c H locs 0 0 Q (F0 m 71 ls []) := by
            intro H locs ls v3 ev3 hP hS hl
            subst ev3
            refine lv_iload_n hx hb dX1_holesAnew_71 rfl (lv_at hl 3 rfl) ?_
            refine lv_iload_n hx hb dX1_holesAnew_72 rfl (lv_at hl 1 rfl) ?_
            have J81_5 : ∀ (H : Heap) (locs : List Loc) (ls : Array Slot) (t0 : Int32), t0 = xk_b (¬ (bk_hxA σ n (nI i6) = 0)) → bP D ad ρ σ nw n H → va_S A s.heap H locs → lv_has ls 5 [(4, .int (nI i18)), (3, .int (bk_hxA σ n (nI i6))), (2, .int (nI i6)), (1, .int (bk_ha σ n i6)), (0, .ref (ad 0))] → W p l e (xk_R 5 109) s m args below meth c H locs 0 0 Q (F0 m 81 ls [.int t0, .int (bk_ha σ n i6)]) := by
              intro H locs ls t0 et0 hP hS hl
              subst et0
              refine lv_isub hx hb dX1_holesAnew_81 ?_
              refine lv_istore_n (lv' := [(1, .int ((bk_ha σ n i6) - (xk_b (¬ (bk_hxA σ n (nI i6) = 0))))), (4, .int (nI i18)), (3, .int (bk_hxA σ n (nI i6))), (2, .int (nI i6)), (0, .ref (ad 0))]) hx hb dX1_holesAnew_82 rfl hl (by decide) rfl (fun ls hl => ?_)
              refine lv_iinc (v := nI (i6 + 1)) (lv' := [(2, .int (nI (i6 + 1))), (1, .int ((bk_ha σ n i6) - (xk_b (¬ (bk_hxA σ n (nI i6) = 0))))), (4, .int (nI i18)), (3, .int (bk_hxA σ n (nI i6))), (0, .ref (ad 0))]) hx hb dX1_holesAnew_83 hl (k := 3) rfl (xk_inc i6) (by decide) rfl (fun ls hl => ?_)
              refine lv_goto (tgt := 6) hx hb dX1_holesAnew_86 (by decide) ?_
              exact ih6 (i6 + 1) (by omega) (by omega)  _ _ _ ((bk_ha σ n i6) - (xk_b (¬ (bk_hxA σ n (nI i6) = 0)))) (rfl) hP hS (lv_sub hl [0, 1, 4] rfl)
            refine lv_if_eq (tgt := 80) hx hb dX1_holesAnew_73 (by decide) (fun c_4 => ?_) (fun c_4 => ?_)
            · skip
              refine lv_iconst (v := 0) hx hb dX1_holesAnew_80 (by decide) ?_
              exact J81_5 _ _ _ 0 ((if_neg (fun h => h c_4)).symm) hP hS (lv_sub hl [0, 1, 2, 3, 4] rfl)
            refine lv_iconst (v := 1) hx hb dX1_holesAnew_76 (by decide) ?_
            refine lv_goto (tgt := 81) hx hb dX1_holesAnew_77 (by decide) ?_
            exact J81_5 _ _ _ 1 ((if_pos c_4).symm) hP hS (lv_sub hl [0, 1, 2, 3, 4] rfl)
          refine mk_ge (tgt := 71) (a := i18) (b := 256) hx hb (by omega) (by omega) dX1_holesAnew_23 (by decide) (fun c_2 => ?_) (fun c_2 => ?_)
          · skip
            exact J71_3 _ _ _ (bk_hx σ n (nI i6) i18) (bk_hxA_of1 _ _ _ (by omega)) hP hS (lv_sub hl [0, 1, 2, 3, 4] rfl)
          refine lv_iload_n hx hb dX1_holesAnew_26 rfl (lv_at hl 1 rfl) ?_
          refine lv_if_ne (tgt := 71) hx hb dX1_holesAnew_27 (by decide) (fun c_6 => ?_) (fun c_6 => ?_)
          · skip
            exact J71_3 _ _ _ (bk_hx σ n (nI i6) i18) (bk_hxA_of2 _ _ _ h18b c_6) hP hS (lv_sub hl [0, 1, 2, 3, 4] rfl)
          refine lv_aload_n hx hb dX1_holesAnew_30 rfl (lv_at hl 4 rfl) ?_
          refine lv_iload hx hb dX1_holesAnew_31 (lv_at hl 0 rfl) ?_
          refine lv_iload_n hx hb dX1_holesAnew_33 rfl (lv_at hl 2 rfl) ?_
          refine xk_ciV hAt hK (P := bP D ad ρ σ nw n) hP hA hS (xk_recv (q := (RX1, TX1, 6)) hK (b0 hP) rfl) (As := [.int (nI i18), .int (nI i6)]) (rest := []) (b_touches l D A ad ρ σ nw n (nI i18) (nI i6)) (cwV 2 hts (lw_V q273 q275 qs2 q37 q276) rfl rfl rfl cdX1_touches ⟨Nat.le_of_ble_eq_true rfl, Nat.le_of_ble_eq_true rfl⟩) rfl hl.1 rfl (Nat.le_of_ble_eq_true rfl) dX1_holesAnew_34 ⟨Nat.le_refl _, Nat.le_refl _⟩ (fun r H locs hq hS => ?_)
          obtain ⟨rfl, hP⟩ := hq
          have J64_8 : ∀ (H : Heap) (locs : List Loc) (ls : Array Slot) (t0 : Int32), t0 = xk_b (mk_tch σ (nI i18) (nI i6) ∧ (bk_isL σ n (nI i18) ∧ mk_school σ (mk_near σ n (nI i18)) = 2)) → bP D ad ρ σ nw n H → va_S A s.heap H locs → lv_has ls 5 [(4, .int (nI i18)), (3, .int (bk_hx σ n (nI i6) i18)), (2, .int (nI i6)), (1, .int (bk_ha σ n i6)), (0, .ref (ad 0))] → W p l e (xk_R 5 109) s m args below meth c H locs 0 0 Q (F0 m 64 ls [.int t0]) := by
            intro H locs ls t0 et0 hP hS hl
            subst et0
            refine lv_istore_n (lv' := [(3, .int (xk_b (mk_tch σ (nI i18) (nI i6) ∧ (bk_isL σ n (nI i18) ∧ mk_school σ (mk_near σ n (nI i18)) = 2)))), (4, .int (nI i18)), (2, .int (nI i6)), (1, .int (bk_ha σ n i6)), (0, .ref (ad 0))]) hx hb dX1_holesAnew_64 rfl hl (by decide) rfl (fun ls hl => ?_)
            refine lv_iinc (v := nI (i18 + 1)) (lv' := [(4, .int (nI (i18 + 1))), (3, .int (xk_b (mk_tch σ (nI i18) (nI i6) ∧ (bk_isL σ n (nI i18) ∧ mk_school σ (mk_near σ n (nI i18)) = 2)))), (2, .int (nI i6)), (1, .int (bk_ha σ n i6)), (0, .ref (ad 0))]) hx hb dX1_holesAnew_65 hl (k := 1) rfl (xk_inc i18) (by decide) rfl (fun ls hl => ?_)
            refine lv_goto (tgt := 18) hx hb dX1_holesAnew_68 (by decide) ?_
            exact ih18 (i18 + 1) (by omega) (by omega)  _ _ _ (xk_b (mk_tch σ (nI i18) (nI i6) ∧ (bk_isL σ n (nI i18) ∧ mk_school σ (mk_near σ n (nI i18)) = 2))) (bk_hx_st _ _ _ _ c_6) hP hS (lv_sub hl [0, 1, 2, 3, 4] rfl)
          refine xk_ifeq (tgt := 63) hx hb dX1_holesAnew_37 (by decide) (fun c_7 => ?_) (fun c_7 => ?_)
          · skip
            refine lv_iconst (v := 0) hx hb dX1_holesAnew_63 (by decide) ?_
            exact J64_8 _ _ _ 0 ((if_neg (fun h => c_7 h.1)).symm) hP hS (lv_sub hl [0, 1, 2, 3, 4] rfl)
          refine lv_aload_n hx hb dX1_holesAnew_40 rfl (lv_at hl 4 rfl) ?_
          refine lv_iload hx hb dX1_holesAnew_41 (lv_at hl 0 rfl) ?_
          refine xk_ciV hAt hK (P := bP D ad ρ σ nw n) hP hA hS (xk_recv (q := (RX1, TX1, 6)) hK (b0 hP) rfl) (As := [.int (nI i18)]) (rest := []) (b_isOfLibrary l D A ad ρ σ nw n (by assumption) (by assumption) (nI i18)) (cwV 1 hts (lw_V q299 q301 qs6 q37 q302) rfl rfl rfl cdX1_isOfLibrary ⟨Nat.le_of_ble_eq_true rfl, Nat.le_of_ble_eq_true rfl⟩) rfl hl.1 rfl (Nat.le_of_ble_eq_true rfl) dX1_holesAnew_43 ⟨Nat.le_refl _, Nat.le_refl _⟩ (fun r H locs hq hS => ?_)
          obtain ⟨rfl, hP⟩ := hq
          refine xk_ifeq (tgt := 63) hx hb dX1_holesAnew_46 (by decide) (fun c_9 => ?_) (fun c_9 => ?_)
          · skip
            refine lv_iconst (v := 0) hx hb dX1_holesAnew_63 (by decide) ?_
            exact J64_8 _ _ _ 0 ((if_neg (fun h => (fun h => c_9 h.1) h.2)).symm) hP hS (lv_sub hl [0, 1, 2, 3, 4] rfl)
          refine lv_aload_n hx hb dX1_holesAnew_49 rfl (lv_at hl 4 rfl) ?_
          refine lv_iload hx hb dX1_holesAnew_50 (lv_at hl 0 rfl) ?_
          refine xk_ciV hAt hK (P := bP D ad ρ σ nw n) hP hA hS (xk_recv (q := (RX1, TX1, 6)) hK (b0 hP) rfl) (As := [.int (nI i18)]) (rest := []) (b_schooled l D A ad ρ σ nw n (by assumption) (nI i18)) (cwV 1 hts (lw_V q284 q286 qs4 q37 q287) rfl rfl rfl cdX1_schooled ⟨Nat.le_of_ble_eq_true rfl, Nat.le_of_ble_eq_true rfl⟩) rfl hl.1 rfl (Nat.le_of_ble_eq_true rfl) dX1_holesAnew_52 ⟨Nat.le_refl _, Nat.le_refl _⟩ (fun r H locs hq hS => ?_)
          obtain ⟨rfl, hP⟩ := hq
          refine lv_iconst (v := 2) hx hb dX1_holesAnew_55 (by decide) ?_
          refine lv_icmp_ne (tgt := 63) hx hb dX1_holesAnew_56 (by decide) (fun c_10 => ?_) (fun c_10 => ?_)
          · skip
            refine lv_iconst (v := 0) hx hb dX1_holesAnew_63 (by decide) ?_
            exact J64_8 _ _ _ 0 ((if_neg (fun h => (fun h => c_10 h.2) h.2)).symm) hP hS (lv_sub hl [0, 1, 2, 3, 4] rfl)
          refine lv_iconst (v := 1) hx hb dX1_holesAnew_59 (by decide) ?_
          refine lv_goto (tgt := 64) hx hb dX1_holesAnew_60 (by decide) ?_
          exact J64_8 _ _ _ 1 ((if_pos ⟨c_7, ⟨c_9, c_10⟩⟩).symm) hP hS (lv_sub hl [0, 1, 2, 3, 4] rfl)
      exact L18 (256 + 1) 0 (by omega) (by omega)  _ _ _ 0 (rfl) hP hS (lv_sub hl [0, 1, 2, 3, 4] rfl)
  exact L6 (256 + 1) 0 (by omega) (by omega)  _ _ _ 256 (rfl) hP hS (lv_sub hl [0, 1, 2] rfl)
set_option maxHeartbeats 4000000 in
theorem b_cellAt (l : Launch) (D : xk_G) (A : Nat → Prop) (ad : Nat → Nat) (σ : Nat → Nat → Int32) (nw : Nat → Int32) (n : Nat → Nat) (h3m : n 3 ≤ 40) (k : Nat) (hk : k < n 3) : Met l yX1_cellAt (ws_ yX1_cellAt cX1_cellAt 2 (some (.object "KeylockBody$Cell"))) (xk_R 3 64) (xk_Pre D A (bP D ad (ad 100) σ nw n) [.ref (ad 0), .int (nI k)]) (xk_Pr A (fun r H => r = ad (120 + k) ∧ bP D ad (ad 100) σ nw n H)) 0 0 A := by
  refine xk_startR (by decide +kernel) (Nat.le_of_ble_eq_true rfl) (Or.inl ⟨_, rfl⟩) ?_
  intro p e s m args below meth c Q hAt hin hK hA hP hR ls hl
  obtain ⟨hx, hb, hml, hown, hts⟩ := id hAt
  have hl : lv_has ls 2 [(0, .ref (ad 0)), (1, .int (nI k))] := hl
  have hS : va_S A s.heap s.heap [] := va_S.rf
  refine lv_iload_n hx hb dX1_cellAt_0 rfl (lv_at hl 1 rfl) ?_
  refine lv_aload_n hx hb dX1_cellAt_1 rfl (lv_at hl 0 rfl) ?_
  refine xk_getO hAt hK (b0 hP) (C := RX1) (T := TX1) (N := 6) rfl 5 (by decide) (v := .ref (ad 100)) rfl (hts _ q142) (fun _ h => h) in_X1 dX1_cellAt_2 ?_
  refine xk_getN hAt hK (b100 hP) (C := RX2) (T := TX2) (N := 7) rfl 0 (by decide) (v := .ref (ad 101)) rfl q110 (fun _ h => h) in_X2 dX1_cellAt_5 ?_
  refine xk_ciF hAt hK (P := bP D ad (ad 100) σ nw n) hP hA hS (xk_recvL hK (bcl hP)) (As := []) (rest := [.int (nI k)]) (al_size l D A (bP D ad (ad 100) σ nw n) (ad 101) (ad 104) (n 3) (fun j => ad (120 + j)) (fun _ h => bcl h)) (va_cwF 0 hts (xk_lwF q236 q240 q242 q40 q244) rfl rfl rfl hK.2.2.1 (by decide +kernel) ⟨Nat.le_of_ble_eq_true rfl, Nat.le_of_ble_eq_true rfl⟩) rfl hl.1 rfl (Nat.le_of_ble_eq_true rfl) dX1_cellAt_8 ⟨Nat.le_refl _, Nat.le_refl _⟩ (fun r H locs hq hS => ?_)
  obtain ⟨rfl, hP⟩ := hq
  refine xk_cvS hAt hK (P := bP D ad (ad 100) σ nw n) hP hA hS (As := [.int (nI k), .int (nI (n 3))]) (rest := []) (b_checkThere l D A (bP D ad (ad 100) σ nw n) k (n 3) (by omega) (by omega)) (va_cwS 2 hts (lw_S q479 q480 q37 q481) rfl rfl rfl cdX1_checkThere ⟨Nat.le_of_ble_eq_true rfl, Nat.le_of_ble_eq_true rfl⟩) rfl hl.1 rfl (Nat.le_of_ble_eq_true rfl) dX1_cellAt_13 ⟨Nat.le_refl _, Nat.le_refl _⟩ (fun H locs hP hS => ?_)
  refine lv_aload_n hx hb dX1_cellAt_16 rfl (lv_at hl 0 rfl) ?_
  refine xk_getO hAt hK (b0 hP) (C := RX1) (T := TX1) (N := 6) rfl 5 (by decide) (v := .ref (ad 100)) rfl (hts _ q142) (fun _ h => h) in_X1 dX1_cellAt_17 ?_
  refine xk_getN hAt hK (b100 hP) (C := RX2) (T := TX2) (N := 7) rfl 0 (by decide) (v := .ref (ad 101)) rfl q110 (fun _ h => h) in_X2 dX1_cellAt_20 ?_
  refine lv_iload_n hx hb dX1_cellAt_23 rfl (lv_at hl 1 rfl) ?_
  refine xk_crF hAt hK (P := bP D ad (ad 100) σ nw n) hP hA hS (xk_recvL hK (bcl hP)) (As := [.int (nI k)]) (rest := []) (al_get l D A (bP D ad (ad 100) σ nw n) (ad 101) (ad 104) (n 3) (fun j => ad (120 + j)) (fun _ h => bcl h) k (by omega) (by omega)) (va_cwF 1 hts (xk_lwF q250 q253 q255 q40 q257) rfl rfl rfl hK.2.2.2.1 (by decide +kernel) ⟨Nat.le_of_ble_eq_true rfl, Nat.le_of_ble_eq_true rfl⟩) rfl hl.1 rfl (Nat.le_of_ble_eq_true rfl) dX1_cellAt_24 ⟨Nat.le_refl _, Nat.le_refl _⟩ (fun r H locs hq hS => ?_)
  have hq : r = ad (120 + k) ∧ bP D ad (ad 100) σ nw n H := hq
  obtain ⟨rfl, hP⟩ := hq
  refine xk_cast hAt hK (bcell hP k (by omega)) rfl rfl (hts _ q525) dX1_cellAt_29 ?_
  exact hR _ _ _ _ _ dX1_cellAt_32 (⟨rfl, hP⟩) hS
set_option maxHeartbeats 4000000 in
theorem b_invaderAt (l : Launch) (D : xk_G) (A : Nat → Prop) (ad : Nat → Nat) (σ : Nat → Nat → Int32) (nw : Nat → Int32) (n : Nat → Nat) (h4m : n 4 ≤ 8) (k : Nat) (hk : k < n 4) : Met l yX1_invaderAt (ws_ yX1_invaderAt cX1_invaderAt 2 (some (.object "KeylockBody$Invader"))) (xk_R 3 64) (xk_Pre D A (bP D ad (ad 100) σ nw n) [.ref (ad 0), .int (nI k)]) (xk_Pr A (fun r H => r = ad (110 + k) ∧ bP D ad (ad 100) σ nw n H)) 0 0 A := by
  refine xk_startR (by decide +kernel) (Nat.le_of_ble_eq_true rfl) (Or.inl ⟨_, rfl⟩) ?_
  intro p e s m args below meth c Q hAt hin hK hA hP hR ls hl
  obtain ⟨hx, hb, hml, hown, hts⟩ := id hAt
  have hl : lv_has ls 2 [(0, .ref (ad 0)), (1, .int (nI k))] := hl
  have hS : va_S A s.heap s.heap [] := va_S.rf
  refine lv_iload_n hx hb dX1_invaderAt_0 rfl (lv_at hl 1 rfl) ?_
  refine lv_aload_n hx hb dX1_invaderAt_1 rfl (lv_at hl 0 rfl) ?_
  refine xk_getO hAt hK (b0 hP) (C := RX1) (T := TX1) (N := 6) rfl 5 (by decide) (v := .ref (ad 100)) rfl (hts _ q142) (fun _ h => h) in_X1 dX1_invaderAt_2 ?_
  refine xk_getN hAt hK (b100 hP) (C := RX2) (T := TX2) (N := 7) rfl 1 (by decide) (v := .ref (ad 102)) rfl q112 (fun _ h => h) in_X2 dX1_invaderAt_5 ?_
  refine xk_ciF hAt hK (P := bP D ad (ad 100) σ nw n) hP hA hS (xk_recvL hK (bvl hP)) (As := []) (rest := [.int (nI k)]) (al_size l D A (bP D ad (ad 100) σ nw n) (ad 102) (ad 105) (n 4) (fun j => ad (110 + j)) (fun _ h => bvl h)) (va_cwF 0 hts (xk_lwF q236 q240 q242 q40 q244) rfl rfl rfl hK.2.2.1 (by decide +kernel) ⟨Nat.le_of_ble_eq_true rfl, Nat.le_of_ble_eq_true rfl⟩) rfl hl.1 rfl (Nat.le_of_ble_eq_true rfl) dX1_invaderAt_8 ⟨Nat.le_refl _, Nat.le_refl _⟩ (fun r H locs hq hS => ?_)
  obtain ⟨rfl, hP⟩ := hq
  refine xk_cvS hAt hK (P := bP D ad (ad 100) σ nw n) hP hA hS (As := [.int (nI k), .int (nI (n 4))]) (rest := []) (b_checkThere l D A (bP D ad (ad 100) σ nw n) k (n 4) (by omega) (by omega)) (va_cwS 2 hts (lw_S q479 q480 q37 q481) rfl rfl rfl cdX1_checkThere ⟨Nat.le_of_ble_eq_true rfl, Nat.le_of_ble_eq_true rfl⟩) rfl hl.1 rfl (Nat.le_of_ble_eq_true rfl) dX1_invaderAt_13 ⟨Nat.le_refl _, Nat.le_refl _⟩ (fun H locs hP hS => ?_)
  refine lv_aload_n hx hb dX1_invaderAt_16 rfl (lv_at hl 0 rfl) ?_
  refine xk_getO hAt hK (b0 hP) (C := RX1) (T := TX1) (N := 6) rfl 5 (by decide) (v := .ref (ad 100)) rfl (hts _ q142) (fun _ h => h) in_X1 dX1_invaderAt_17 ?_
  refine xk_getN hAt hK (b100 hP) (C := RX2) (T := TX2) (N := 7) rfl 1 (by decide) (v := .ref (ad 102)) rfl q112 (fun _ h => h) in_X2 dX1_invaderAt_20 ?_
  refine lv_iload_n hx hb dX1_invaderAt_23 rfl (lv_at hl 1 rfl) ?_
  refine xk_crF hAt hK (P := bP D ad (ad 100) σ nw n) hP hA hS (xk_recvL hK (bvl hP)) (As := [.int (nI k)]) (rest := []) (al_get l D A (bP D ad (ad 100) σ nw n) (ad 102) (ad 105) (n 4) (fun j => ad (110 + j)) (fun _ h => bvl h) k (by omega) (by omega)) (va_cwF 1 hts (xk_lwF q250 q253 q255 q40 q257) rfl rfl rfl hK.2.2.2.1 (by decide +kernel) ⟨Nat.le_of_ble_eq_true rfl, Nat.le_of_ble_eq_true rfl⟩) rfl hl.1 rfl (Nat.le_of_ble_eq_true rfl) dX1_invaderAt_24 ⟨Nat.le_refl _, Nat.le_refl _⟩ (fun r H locs hq hS => ?_)
  have hq : r = ad (110 + k) ∧ bP D ad (ad 100) σ nw n H := hq
  obtain ⟨rfl, hP⟩ := hq
  refine xk_cast hAt hK (binv hP k (by omega)) rfl rfl (hts _ q595) dX1_invaderAt_29 ?_
  exact hR _ _ _ _ _ dX1_invaderAt_32 (⟨rfl, hP⟩) hS
set_option maxHeartbeats 4000000 in
theorem b_table (l : Launch) (D : xk_G) (A : Nat → Prop) (ad : Nat → Nat) (σ : Nat → Nat → Int32) (nw : Nat → Int32) (n : Nat → Nat) (hJ : bk_ok A ad n) (hn0 : bk_n n) (a b : Nat) (ha : a < 4) (hb2 : b < 4) (v : Int32) (hv0 : mk_in v 0 9) : Met l yX1_table (ws_ yX1_table cX1_table 5 (some .int)) (xk_R 2 42) (xk_Pre D A (bP D ad (ad 100) σ nw n) [.ref (ad 0), .int (nI a), .int (nI b), .int v]) (xk_Pi A (fun r H => r = σ 0 (4 * a + b) ∧ bP D ad (ad 100) (va_up σ 0 (upd (σ 0) (4 * a + b) v)) nw n H)) 0 0 A := by
  refine xk_startI (by decide +kernel) (Nat.le_of_ble_eq_true rfl) ?_
  intro p e s m args below meth c Q hAt hin hK hA hP hR ls hl
  obtain ⟨hx, hb, hml, hown, hts⟩ := id hAt
  have hl : lv_has ls 5 [(0, .ref (ad 0)), (1, .int (nI a)), (2, .int (nI b)), (3, .int v)] := hl
  have hS : va_S A s.heap s.heap [] := va_S.rf
  obtain ⟨h0m, h1m, h2m, h3m, h4m⟩ := id hn0
  refine lv_iload_n hx hb dX1_table_0 rfl (lv_at hl 1 rfl) ?_
  refine xk_cvS hAt hK (P := bP D ad (ad 100) σ nw n) hP hA hS (As := [.int (nI a)]) (rest := []) (b_checkLetter l D A (bP D ad (ad 100) σ nw n) (nI a) (mk_inP (k := 3) (by omega) (by omega))) (va_cwS 1 hts (lw_S q311 q312 q37 q313) rfl rfl rfl cdX1_checkLetter ⟨Nat.le_of_ble_eq_true rfl, Nat.le_of_ble_eq_true rfl⟩) rfl hl.1 rfl (Nat.le_of_ble_eq_true rfl) dX1_table_1 ⟨Nat.le_refl _, Nat.le_refl _⟩ (fun H locs hP hS => ?_)
  refine lv_iload_n hx hb dX1_table_4 rfl (lv_at hl 2 rfl) ?_
  refine xk_cvS hAt hK (P := bP D ad (ad 100) σ nw n) hP hA hS (As := [.int (nI b)]) (rest := []) (b_checkLetter l D A (bP D ad (ad 100) σ nw n) (nI b) (mk_inP (k := 3) (by omega) (by omega))) (va_cwS 1 hts (lw_S q311 q312 q37 q313) rfl rfl rfl cdX1_checkLetter ⟨Nat.le_of_ble_eq_true rfl, Nat.le_of_ble_eq_true rfl⟩) rfl hl.1 rfl (Nat.le_of_ble_eq_true rfl) dX1_table_5 ⟨Nat.le_refl _, Nat.le_refl _⟩ (fun H locs hP hS => ?_)
  refine lv_iload_n hx hb dX1_table_8 rfl (lv_at hl 3 rfl) ?_
  refine lv_iconst (v := 0) hx hb dX1_table_9 (by decide) ?_
  refine lv_bipush (v := 9) hx hb dX1_table_10 (by decide) ?_
  refine xk_cvS hAt hK (P := bP D ad (ad 100) σ nw n) hP hA hS (As := [.int v, .int 0, .int 9]) (rest := []) (b_check l D A (bP D ad (ad 100) σ nw n) v 0 9 (by assumption)) (va_cwS 3 hts (lw_S q167 q168 q37 q169) rfl rfl rfl cdX1_check ⟨Nat.le_of_ble_eq_true rfl, Nat.le_of_ble_eq_true rfl⟩) rfl hl.1 rfl (Nat.le_of_ble_eq_true rfl) dX1_table_12 ⟨Nat.le_refl _, Nat.le_refl _⟩ (fun H locs hP hS => ?_)
  refine lv_aload_n hx hb dX1_table_15 rfl (lv_at hl 0 rfl) ?_
  refine xk_getO hAt hK (b0 hP) (C := RX1) (T := TX1) (N := 6) rfl 0 (by decide) (v := .ref (ad 1)) rfl (hts _ q135) (fun _ h => h) in_X1 dX1_table_16 ?_
  refine lv_iload_n hx hb dX1_table_19 rfl (lv_at hl 1 rfl) ?_
  refine xk_aaldT hAt hK (btab hP) a (ad (2 + a)) (by omega) (by decide) rfl dX1_table_20 ?_
  refine lv_iload_n hx hb dX1_table_21 rfl (lv_at hl 2 rfl) ?_
  refine xk_ialdO hAt hK (brow hP a (by omega)) b (by omega) (by decide) dX1_table_22 ?_
  refine xk_to (y := σ 0 (4 * a + b)) rfl ?_
  refine lv_istore (lv' := [(4, .int (σ 0 (4 * a + b))), (0, .ref (ad 0)), (1, .int (nI a)), (2, .int (nI b)), (3, .int v)]) hx hb dX1_table_23 hl (by decide) rfl (fun ls hl => ?_)
  refine lv_aload_n hx hb dX1_table_25 rfl (lv_at hl 1 rfl) ?_
  refine xk_getO hAt hK (b0 hP) (C := RX1) (T := TX1) (N := 6) rfl 0 (by decide) (v := .ref (ad 1)) rfl (hts _ q135) (fun _ h => h) in_X1 dX1_table_26 ?_
  refine lv_iload_n hx hb dX1_table_29 rfl (lv_at hl 2 rfl) ?_
  refine xk_aaldT hAt hK (btab hP) a (ad (2 + a)) (by omega) (by decide) rfl dX1_table_30 ?_
  refine lv_iload_n hx hb dX1_table_31 rfl (lv_at hl 3 rfl) ?_
  refine lv_iload_n hx hb dX1_table_32 rfl (lv_at hl 4 rfl) ?_
  refine xk_iastO hAt hK hS (brow hP a (by omega)) (hJ.2 (2 + a) (by unfold bk_dom; omega) (by unfold bk_box; omega)) b (by omega) (by decide) dX1_table_33 (fun H locs ho oq hz hS => ?_)
  have hP : bP D ad (ad 100) (va_up σ 0 (upd (σ 0) (4 * a + b) v)) nw n H := bP_row hJ hP hn0 a b (by omega) (by omega) ho oq
  refine lv_iload hx hb dX1_table_34 (lv_at hl 0 rfl) ?_
  exact hR _ _ _ _ _ dX1_table_36 (⟨rfl, hP⟩) hS
set_option maxHeartbeats 4000000 in
theorem b_fit (l : Launch) (D : xk_G) (A : Nat → Prop) (ad : Nat → Nat) (σ : Nat → Nat → Int32) (nw : Nat → Int32) (n : Nat → Nat) (a b : Int32) (ha : mk_in a 0 255) (hb2 : mk_in b 0 255) : Met l yX1_fit (ws_ yX1_fit cX1_fit 3 (some .int)) (xk_R 2 45) (xk_Pre D A (bP D ad (ad 100) σ nw n) [.ref (ad 0), .int a, .int b]) (xk_Pi A (fun r H => r = mk_fit (σ 0) a b ∧ bP D ad (ad 100) σ nw n H)) 0 0 A := by
  refine xk_startI (by decide +kernel) (Nat.le_of_ble_eq_true rfl) ?_
  intro p e s m args below meth c Q hAt hin hK hA hP hR ls hl
  obtain ⟨hx, hb, hml, hown, hts⟩ := id hAt
  have hl : lv_has ls 3 [(0, .ref (ad 0)), (1, .int a), (2, .int b)] := hl
  have hS : va_S A s.heap s.heap [] := va_S.rf
  refine lv_iload_n hx hb dX1_fit_0 rfl (lv_at hl 1 rfl) ?_
  refine xk_cvS hAt hK (P := bP D ad (ad 100) σ nw n) hP hA hS (As := [.int a]) (rest := []) (b_checkWord l D A (bP D ad (ad 100) σ nw n) a (by assumption)) (va_cwS 1 hts (lw_S q164 q165 q37 q166) rfl rfl rfl cdX1_checkWord ⟨Nat.le_of_ble_eq_true rfl, Nat.le_of_ble_eq_true rfl⟩) rfl hl.1 rfl (Nat.le_of_ble_eq_true rfl) dX1_fit_1 ⟨Nat.le_refl _, Nat.le_refl _⟩ (fun H locs hP hS => ?_)
  refine lv_iload_n hx hb dX1_fit_4 rfl (lv_at hl 2 rfl) ?_
  refine xk_cvS hAt hK (P := bP D ad (ad 100) σ nw n) hP hA hS (As := [.int b]) (rest := []) (b_checkWord l D A (bP D ad (ad 100) σ nw n) b (by assumption)) (va_cwS 1 hts (lw_S q164 q165 q37 q166) rfl rfl rfl cdX1_checkWord ⟨Nat.le_of_ble_eq_true rfl, Nat.le_of_ble_eq_true rfl⟩) rfl hl.1 rfl (Nat.le_of_ble_eq_true rfl) dX1_fit_5 ⟨Nat.le_refl _, Nat.le_refl _⟩ (fun H locs hP hS => ?_)
  refine lv_aload_n hx hb dX1_fit_8 rfl (lv_at hl 0 rfl) ?_
  refine lv_iload_n hx hb dX1_fit_9 rfl (lv_at hl 1 rfl) ?_
  refine lv_iload_n hx hb dX1_fit_10 rfl (lv_at hl 2 rfl) ?_
  refine xk_ciV hAt hK (P := bP D ad (ad 100) σ nw n) hP hA hS (xk_recv (q := (RX1, TX1, 6)) hK (b0 hP) rfl) (As := [.int a, .int b]) (rest := []) (b_fitOf l D A ad (ad 100) σ nw n a b) (cwV 2 hts (lw_V q277 q279 qs3 q37 q280) rfl rfl rfl cdX1_fitOf ⟨Nat.le_of_ble_eq_true rfl, Nat.le_of_ble_eq_true rfl⟩) rfl hl.1 rfl (Nat.le_of_ble_eq_true rfl) dX1_fit_11 ⟨Nat.le_refl _, Nat.le_refl _⟩ (fun r H locs hq hS => ?_)
  obtain ⟨rfl, hP⟩ := hq
  exact hR _ _ _ _ _ dX1_fit_14 (⟨rfl, hP⟩) hS
set_option maxHeartbeats 4000000 in
theorem b_harm (l : Launch) (D : xk_G) (A : Nat → Prop) (ad : Nat → Nat) (σ : Nat → Nat → Int32) (nw : Nat → Int32) (n : Nat → Nat) (h0m : n 0 ≤ 8) (k : Nat) (hk : k < n 0) : Met l yX1_harm (ws_ yX1_harm cX1_harm 2 (some .int)) (xk_R 1 21) (xk_Pre D A (bP D ad (ad 100) σ nw n) [.ref (ad 0), .int (nI k)]) (xk_Pi A (fun r H => r = nw (144 + k) ∧ bP D ad (ad 100) σ nw n H)) 0 0 A := by
  refine xk_startI (by decide +kernel) (Nat.le_of_ble_eq_true rfl) ?_
  intro p e s m args below meth c Q hAt hin hK hA hP hR ls hl
  obtain ⟨hx, hb, hml, hown, hts⟩ := id hAt
  have hl : lv_has ls 2 [(0, .ref (ad 0)), (1, .int (nI k))] := hl
  have hS : va_S A s.heap s.heap [] := va_S.rf
  refine lv_iload_n hx hb dX1_harm_0 rfl (lv_at hl 1 rfl) ?_
  refine lv_aload_n hx hb dX1_harm_1 rfl (lv_at hl 0 rfl) ?_
  refine xk_getO hAt hK (b0 hP) (C := RX1) (T := TX1) (N := 6) rfl 2 (by decide) (v := .ref (ad 7)) rfl (hts _ q138) (fun _ h => h) in_X1 dX1_harm_2 ?_
  refine xk_ciF hAt hK (P := bP D ad (ad 100) σ nw n) hP hA hS (xk_recvL hK (bow hP)) (As := []) (rest := [.int (nI k)]) (al_size l D A (bP D ad (ad 100) σ nw n) (ad 7) (ad 10) (n 0) (fun j => ad (20 + j)) (fun _ h => bow h)) (va_cwF 0 hts (xk_lwF q236 q240 q242 q40 q244) rfl rfl rfl hK.2.2.1 (by decide +kernel) ⟨Nat.le_of_ble_eq_true rfl, Nat.le_of_ble_eq_true rfl⟩) rfl hl.1 rfl (Nat.le_of_ble_eq_true rfl) dX1_harm_5 ⟨Nat.le_refl _, Nat.le_refl _⟩ (fun r H locs hq hS => ?_)
  obtain ⟨rfl, hP⟩ := hq
  refine xk_cvS hAt hK (P := bP D ad (ad 100) σ nw n) hP hA hS (As := [.int (nI k), .int (nI (n 0))]) (rest := []) (b_checkThere l D A (bP D ad (ad 100) σ nw n) k (n 0) (by omega) (by omega)) (va_cwS 2 hts (lw_S q479 q480 q37 q481) rfl rfl rfl cdX1_checkThere ⟨Nat.le_of_ble_eq_true rfl, Nat.le_of_ble_eq_true rfl⟩) rfl hl.1 rfl (Nat.le_of_ble_eq_true rfl) dX1_harm_10 ⟨Nat.le_refl _, Nat.le_refl _⟩ (fun H locs hP hS => ?_)
  refine lv_aload_n hx hb dX1_harm_13 rfl (lv_at hl 0 rfl) ?_
  refine xk_getO hAt hK (b0 hP) (C := RX1) (T := TX1) (N := 6) rfl 5 (by decide) (v := .ref (ad 100)) rfl (hts _ q142) (fun _ h => h) in_X1 dX1_harm_14 ?_
  refine xk_getN hAt hK (b100 hP) (C := RX2) (T := TX2) (N := 7) rfl 2 (by decide) (v := .ref (ad 103)) rfl q114 (fun _ h => h) in_X2 dX1_harm_17 ?_
  refine lv_iload_n hx hb dX1_harm_20 rfl (lv_at hl 1 rfl) ?_
  refine xk_ialdO hAt hK (bhm hP) k (by omega) (by decide) dX1_harm_21 ?_
  refine xk_to (y := nw (144 + k)) rfl ?_
  exact hR _ _ _ _ _ dX1_harm_22 (⟨rfl, hP⟩) hS
set_option maxHeartbeats 4000000 in
theorem b_nearness (l : Launch) (D : xk_G) (A : Nat → Prop) (ad : Nat → Nat) (σ : Nat → Nat → Int32) (nw : Nat → Int32) (n : Nat → Nat) (h0m : n 0 ≤ 8) (x : Int32) (hx0 : mk_in x 0 255) : Met l yX1_nearness (ws_ yX1_nearness cX1_nearness 2 (some .int)) (xk_R 4 87) (xk_Pre D A (bP D ad (ad 100) σ nw n) [.ref (ad 0), .int x]) (xk_Pi A (fun r H => r = mk_near σ n x ∧ bP D ad (ad 100) σ nw n H)) 0 0 A := by
  refine xk_startI (by decide +kernel) (Nat.le_of_ble_eq_true rfl) ?_
  intro p e s m args below meth c Q hAt hin hK hA hP hR ls hl
  obtain ⟨hx, hb, hml, hown, hts⟩ := id hAt
  have hl : lv_has ls 2 [(0, .ref (ad 0)), (1, .int x)] := hl
  have hS : va_S A s.heap s.heap [] := va_S.rf
  refine lv_iload_n hx hb dX1_nearness_0 rfl (lv_at hl 1 rfl) ?_
  refine xk_cvS hAt hK (P := bP D ad (ad 100) σ nw n) hP hA hS (As := [.int x]) (rest := []) (b_checkWord l D A (bP D ad (ad 100) σ nw n) x (by assumption)) (va_cwS 1 hts (lw_S q164 q165 q37 q166) rfl rfl rfl cdX1_checkWord ⟨Nat.le_of_ble_eq_true rfl, Nat.le_of_ble_eq_true rfl⟩) rfl hl.1 rfl (Nat.le_of_ble_eq_true rfl) dX1_nearness_1 ⟨Nat.le_refl _, Nat.le_refl _⟩ (fun H locs hP hS => ?_)
  refine lv_aload_n hx hb dX1_nearness_4 rfl (lv_at hl 0 rfl) ?_
  refine lv_iload_n hx hb dX1_nearness_5 rfl (lv_at hl 1 rfl) ?_
  refine xk_ciV hAt hK (P := bP D ad (ad 100) σ nw n) hP hA hS (xk_recv (q := (RX1, TX1, 6)) hK (b0 hP) rfl) (As := [.int x]) (rest := []) (b_nearnessOf l D A ad (ad 100) σ nw n (by assumption) x) (cwV 1 hts (lw_V q288 q290 qs5 q37 q291) rfl rfl rfl cdX1_nearnessOf ⟨Nat.le_of_ble_eq_true rfl, Nat.le_of_ble_eq_true rfl⟩) rfl hl.1 rfl (Nat.le_of_ble_eq_true rfl) dX1_nearness_6 ⟨Nat.le_refl _, Nat.le_refl _⟩ (fun r H locs hq hS => ?_)
  obtain ⟨rfl, hP⟩ := hq
  exact hR _ _ _ _ _ dX1_nearness_9 (⟨rfl, hP⟩) hS
set_option maxHeartbeats 4000000 in
theorem b_cellIs (l : Launch) (D : xk_G) (A : Nat → Prop) (ad : Nat → Nat) (σ : Nat → Nat → Int32) (nw : Nat → Int32) (n : Nat → Nat) (h3m : n 3 ≤ 40) (k : Nat) (hk : k < n 3) (j : Nat) (hj : j ≤ 5) : Met l yX1_cellIs (ws_ yX1_cellIs cX1_cellIs 4 (some .int)) (xk_R 4 85) (xk_Pre D A (bP D ad (ad 100) σ nw n) [.ref (ad 0), .int (nI k), .int (nI j)]) (xk_Pi A (fun r H => r = mk_cellIs σ nw k j ∧ bP D ad (ad 100) σ nw n H)) 0 0 A := by
  refine xk_startI (by decide +kernel) (Nat.le_of_ble_eq_true rfl) ?_
  intro p e s m args below meth c Q hAt hin hK hA hP hR ls hl
  obtain ⟨hx, hb, hml, hown, hts⟩ := id hAt
  have hl : lv_has ls 4 [(0, .ref (ad 0)), (1, .int (nI k)), (2, .int (nI j))] := hl
  have hS : va_S A s.heap s.heap [] := va_S.rf
  refine lv_aload_n hx hb dX1_cellIs_0 rfl (lv_at hl 0 rfl) ?_
  refine lv_iload_n hx hb dX1_cellIs_1 rfl (lv_at hl 1 rfl) ?_
  refine xk_crV hAt hK (P := bP D ad (ad 100) σ nw n) hP hA hS (xk_recv (q := (RX1, TX1, 6)) hK (b0 hP) rfl) (As := [.int (nI k)]) (rest := []) (b_cellAt l D A ad σ nw n (by assumption) k (by omega)) (cwV 1 hts (lw_V q577 q579 qs10 q37 q580) rfl rfl rfl cdX1_cellAt ⟨Nat.le_of_ble_eq_true rfl, Nat.le_of_ble_eq_true rfl⟩) rfl hl.1 rfl (Nat.le_of_ble_eq_true rfl) dX1_cellIs_2 ⟨Nat.le_refl _, Nat.le_refl _⟩ (fun r H locs hq hS => ?_)
  have hq : r = ad (120 + k) ∧ bP D ad (ad 100) σ nw n H := hq
  obtain ⟨rfl, hP⟩ := hq
  refine lv_astore_n (lv' := [(3, .ref (ad (120 + k))), (0, .ref (ad 0)), (1, .int (nI k)), (2, .int (nI j))]) hx hb dX1_cellIs_5 rfl hl (by decide) rfl (fun ls hl => ?_)
  refine lv_iload_n hx hb dX1_cellIs_6 rfl (lv_at hl 3 rfl) ?_
  refine lv_iconst (v := 0) hx hb dX1_cellIs_7 (by decide) ?_
  refine lv_iconst (v := 5) hx hb dX1_cellIs_8 (by decide) ?_
  refine xk_cvS hAt hK (P := bP D ad (ad 100) σ nw n) hP hA hS (As := [.int (nI j), .int 0, .int 5]) (rest := []) (b_check l D A (bP D ad (ad 100) σ nw n) (nI j) 0 5 (mk_inP (k := 5) (by omega) (by omega))) (va_cwS 3 hts (lw_S q167 q168 q37 q169) rfl rfl rfl cdX1_check ⟨Nat.le_of_ble_eq_true rfl, Nat.le_of_ble_eq_true rfl⟩) rfl hl.1 rfl (Nat.le_of_ble_eq_true rfl) dX1_cellIs_9 ⟨Nat.le_refl _, Nat.le_refl _⟩ (fun H locs hP hS => ?_)
  refine lv_iload_n hx hb dX1_cellIs_12 rfl (lv_at hl 3 rfl) ?_
  rcases (show j = 0 ∨ j = 1 ∨ j = 2 ∨ j = 3 ∨ j = 4 ∨ j = 5 by omega) with rfl | rfl | rfl | rfl | rfl | rfl
  · refine lv_tableIn (x := nI 0) (off := 35) (tgt := 48) hx hb dX1_cellIs_13 (by decide) (by decide) rfl (by decide) ?_
    refine lv_aload_n hx hb dX1_cellIs_48 rfl (lv_at hl 0 rfl) ?_
    refine xk_getN hAt hK (bcell hP k (by omega)) (C := RX4) (T := TX4) (N := 7) rfl 1 (by decide) (v := .int (σ 6 k)) rfl q534 (fun _ h => h) in_X4 dX1_cellIs_49 ?_
    refine lv_goto (tgt := 87) hx hb dX1_cellIs_52 (by decide) ?_
    exact hR _ _ _ _ _ dX1_cellIs_87 (⟨rfl, hP⟩) hS
  · refine lv_tableIn (x := nI 1) (off := 42) (tgt := 55) hx hb dX1_cellIs_13 (by decide) (by decide) rfl (by decide) ?_
    refine lv_aload_n hx hb dX1_cellIs_55 rfl (lv_at hl 0 rfl) ?_
    refine xk_getN hAt hK (bcell hP k (by omega)) (C := RX4) (T := TX4) (N := 7) rfl 2 (by decide) (v := .int (σ 7 k)) rfl q537 (fun _ h => h) in_X4 dX1_cellIs_56 ?_
    refine lv_goto (tgt := 87) hx hb dX1_cellIs_59 (by decide) ?_
    exact hR _ _ _ _ _ dX1_cellIs_87 (⟨rfl, hP⟩) hS
  · refine lv_tableIn (x := nI 2) (off := 49) (tgt := 62) hx hb dX1_cellIs_13 (by decide) (by decide) rfl (by decide) ?_
    refine lv_aload_n hx hb dX1_cellIs_62 rfl (lv_at hl 0 rfl) ?_
    refine xk_getN hAt hK (bcell hP k (by omega)) (C := RX4) (T := TX4) (N := 7) rfl 4 (by decide) (v := .int (nw k)) rfl q542 (fun _ h => h) in_X4 dX1_cellIs_63 ?_
    refine lv_goto (tgt := 87) hx hb dX1_cellIs_66 (by decide) ?_
    exact hR _ _ _ _ _ dX1_cellIs_87 (⟨rfl, hP⟩) hS
  · refine lv_tableIn (x := nI 3) (off := 56) (tgt := 69) hx hb dX1_cellIs_13 (by decide) (by decide) rfl (by decide) ?_
    refine lv_aload_n hx hb dX1_cellIs_69 rfl (lv_at hl 0 rfl) ?_
    refine xk_getN hAt hK (bcell hP k (by omega)) (C := RX4) (T := TX4) (N := 7) rfl 5 (by decide) (v := .int (nw (40 + k))) rfl q545 (fun _ h => h) in_X4 dX1_cellIs_70 ?_
    refine lv_goto (tgt := 87) hx hb dX1_cellIs_73 (by decide) ?_
    exact hR _ _ _ _ _ dX1_cellIs_87 (⟨rfl, hP⟩) hS
  · refine lv_tableIn (x := nI 4) (off := 63) (tgt := 76) hx hb dX1_cellIs_13 (by decide) (by decide) rfl (by decide) ?_
    refine lv_aload_n hx hb dX1_cellIs_76 rfl (lv_at hl 0 rfl) ?_
    refine xk_getN hAt hK (bcell hP k (by omega)) (C := RX4) (T := TX4) (N := 7) rfl 6 (by decide) (v := .int (nw (80 + k))) rfl q548 (fun _ h => h) in_X4 dX1_cellIs_77 ?_
    refine lv_goto (tgt := 87) hx hb dX1_cellIs_80 (by decide) ?_
    exact hR _ _ _ _ _ dX1_cellIs_87 (⟨rfl, hP⟩) hS
  · refine lv_tableOut (x := nI 5) (tgt := 83) hx hb dX1_cellIs_13 (Or.inr (by decide)) (by decide) ?_
    refine lv_aload_n hx hb dX1_cellIs_83 rfl (lv_at hl 0 rfl) ?_
    refine xk_getN hAt hK (bcell hP k (by omega)) (C := RX4) (T := TX4) (N := 7) rfl 3 (by decide) (v := .int (σ 8 k)) rfl q539 (fun _ h => h) in_X4 dX1_cellIs_84 ?_
    exact hR _ _ _ _ _ dX1_cellIs_87 (⟨rfl, hP⟩) hS
set_option maxHeartbeats 4000000 in
theorem b_invaderIs (l : Launch) (D : xk_G) (A : Nat → Prop) (ad : Nat → Nat) (σ : Nat → Nat → Int32) (nw : Nat → Int32) (n : Nat → Nat) (h4m : n 4 ≤ 8) (k : Nat) (hk : k < n 4) (j : Nat) (hj : j ≤ 4) : Met l yX1_invaderIs (ws_ yX1_invaderIs cX1_invaderIs 4 (some .int)) (xk_R 4 85) (xk_Pre D A (bP D ad (ad 100) σ nw n) [.ref (ad 0), .int (nI k), .int (nI j)]) (xk_Pi A (fun r H => r = mk_invIs σ nw k j ∧ bP D ad (ad 100) σ nw n H)) 0 0 A := by
  refine xk_startI (by decide +kernel) (Nat.le_of_ble_eq_true rfl) ?_
  intro p e s m args below meth c Q hAt hin hK hA hP hR ls hl
  obtain ⟨hx, hb, hml, hown, hts⟩ := id hAt
  have hl : lv_has ls 4 [(0, .ref (ad 0)), (1, .int (nI k)), (2, .int (nI j))] := hl
  have hS : va_S A s.heap s.heap [] := va_S.rf
  refine lv_aload_n hx hb dX1_invaderIs_0 rfl (lv_at hl 0 rfl) ?_
  refine lv_iload_n hx hb dX1_invaderIs_1 rfl (lv_at hl 1 rfl) ?_
  refine xk_crV hAt hK (P := bP D ad (ad 100) σ nw n) hP hA hS (xk_recv (q := (RX1, TX1, 6)) hK (b0 hP) rfl) (As := [.int (nI k)]) (rest := []) (b_invaderAt l D A ad σ nw n (by assumption) k (by omega)) (cwV 1 hts (lw_V q633 q635 qs11 q37 q636) rfl rfl rfl cdX1_invaderAt ⟨Nat.le_of_ble_eq_true rfl, Nat.le_of_ble_eq_true rfl⟩) rfl hl.1 rfl (Nat.le_of_ble_eq_true rfl) dX1_invaderIs_2 ⟨Nat.le_refl _, Nat.le_refl _⟩ (fun r H locs hq hS => ?_)
  have hq : r = ad (110 + k) ∧ bP D ad (ad 100) σ nw n H := hq
  obtain ⟨rfl, hP⟩ := hq
  refine lv_astore_n (lv' := [(3, .ref (ad (110 + k))), (0, .ref (ad 0)), (1, .int (nI k)), (2, .int (nI j))]) hx hb dX1_invaderIs_5 rfl hl (by decide) rfl (fun ls hl => ?_)
  refine lv_iload_n hx hb dX1_invaderIs_6 rfl (lv_at hl 3 rfl) ?_
  refine lv_iconst (v := 0) hx hb dX1_invaderIs_7 (by decide) ?_
  refine lv_iconst (v := 4) hx hb dX1_invaderIs_8 (by decide) ?_
  refine xk_cvS hAt hK (P := bP D ad (ad 100) σ nw n) hP hA hS (As := [.int (nI j), .int 0, .int 4]) (rest := []) (b_check l D A (bP D ad (ad 100) σ nw n) (nI j) 0 4 (mk_inP (k := 4) (by omega) (by omega))) (va_cwS 3 hts (lw_S q167 q168 q37 q169) rfl rfl rfl cdX1_check ⟨Nat.le_of_ble_eq_true rfl, Nat.le_of_ble_eq_true rfl⟩) rfl hl.1 rfl (Nat.le_of_ble_eq_true rfl) dX1_invaderIs_9 ⟨Nat.le_refl _, Nat.le_refl _⟩ (fun H locs hP hS => ?_)
  refine lv_iload_n hx hb dX1_invaderIs_12 rfl (lv_at hl 3 rfl) ?_
  rcases (show j = 0 ∨ j = 1 ∨ j = 2 ∨ j = 3 ∨ j = 4 by omega) with rfl | rfl | rfl | rfl | rfl
  · refine lv_tableIn (x := nI 0) (off := 31) (tgt := 44) hx hb dX1_invaderIs_13 (by decide) (by decide) rfl (by decide) ?_
    refine lv_aload_n hx hb dX1_invaderIs_44 rfl (lv_at hl 0 rfl) ?_
    refine xk_getN hAt hK (binv hP k (by omega)) (C := RX5) (T := TX5) (N := 5) rfl 0 (by decide) (v := .int (σ 9 k)) rfl q603 (fun _ h => h) in_X5 dX1_invaderIs_45 ?_
    refine lv_goto (tgt := 76) hx hb dX1_invaderIs_48 (by decide) ?_
    exact hR _ _ _ _ _ dX1_invaderIs_76 (⟨rfl, hP⟩) hS
  · refine lv_tableIn (x := nI 1) (off := 38) (tgt := 51) hx hb dX1_invaderIs_13 (by decide) (by decide) rfl (by decide) ?_
    refine lv_aload_n hx hb dX1_invaderIs_51 rfl (lv_at hl 0 rfl) ?_
    refine xk_getN hAt hK (binv hP k (by omega)) (C := RX5) (T := TX5) (N := 5) rfl 1 (by decide) (v := .int (nw (120 + k))) rfl q606 (fun _ h => h) in_X5 dX1_invaderIs_52 ?_
    refine lv_goto (tgt := 76) hx hb dX1_invaderIs_55 (by decide) ?_
    exact hR _ _ _ _ _ dX1_invaderIs_76 (⟨rfl, hP⟩) hS
  · refine lv_tableIn (x := nI 2) (off := 45) (tgt := 58) hx hb dX1_invaderIs_13 (by decide) (by decide) rfl (by decide) ?_
    refine lv_aload_n hx hb dX1_invaderIs_58 rfl (lv_at hl 0 rfl) ?_
    refine xk_getN hAt hK (binv hP k (by omega)) (C := RX5) (T := TX5) (N := 5) rfl 2 (by decide) (v := .int (σ 10 k)) rfl q608 (fun _ h => h) in_X5 dX1_invaderIs_59 ?_
    refine lv_goto (tgt := 76) hx hb dX1_invaderIs_62 (by decide) ?_
    exact hR _ _ _ _ _ dX1_invaderIs_76 (⟨rfl, hP⟩) hS
  · refine lv_tableIn (x := nI 3) (off := 52) (tgt := 65) hx hb dX1_invaderIs_13 (by decide) (by decide) rfl (by decide) ?_
    refine lv_aload_n hx hb dX1_invaderIs_65 rfl (lv_at hl 0 rfl) ?_
    refine xk_getN hAt hK (binv hP k (by omega)) (C := RX5) (T := TX5) (N := 5) rfl 3 (by decide) (v := .int (nw (128 + k))) rfl q611 (fun _ h => h) in_X5 dX1_invaderIs_66 ?_
    refine lv_goto (tgt := 76) hx hb dX1_invaderIs_69 (by decide) ?_
    exact hR _ _ _ _ _ dX1_invaderIs_76 (⟨rfl, hP⟩) hS
  · refine lv_tableOut (x := nI 4) (tgt := 72) hx hb dX1_invaderIs_13 (Or.inr (by decide)) (by decide) ?_
    refine lv_aload_n hx hb dX1_invaderIs_72 rfl (lv_at hl 0 rfl) ?_
    refine xk_getN hAt hK (binv hP k (by omega)) (C := RX5) (T := TX5) (N := 5) rfl 4 (by decide) (v := .int (nw (136 + k))) rfl q614 (fun _ h => h) in_X5 dX1_invaderIs_73 ?_
    exact hR _ _ _ _ _ dX1_invaderIs_76 (⟨rfl, hP⟩) hS
set_option maxHeartbeats 4000000 in
theorem b_change (l : Launch) (D : xk_G) (A : Nat → Prop) (ad : Nat → Nat) (σ : Nat → Nat → Int32) (nw : Nat → Int32) (n : Nat → Nat) (hJ : bk_ok A ad n) (hn0 : bk_n n) (h4m : n 4 ≤ 8) (k : Nat) (hk : k < n 4) (y : Int32) (hy0 : mk_in y 0 255) (hal : ¬ (nw (120 + k) ≤ 0)) : Met l yX1_change (ws_ yX1_change cX1_change 5 (some .int)) (xk_R 4 85) (xk_Pre D A (bP D ad (ad 100) σ nw n) [.ref (ad 0), .int (nI k), .int y]) (xk_Pi A (fun r H => r = σ 9 k ∧ bP D ad (ad 100) (va_up σ 9 (upd (σ 9) k y)) nw n H)) 0 0 A := by
  refine xk_startI (by decide +kernel) (Nat.le_of_ble_eq_true rfl) ?_
  intro p e s m args below meth c Q hAt hin hK hA hP hR ls hl
  obtain ⟨hx, hb, hml, hown, hts⟩ := id hAt
  have hl : lv_has ls 5 [(0, .ref (ad 0)), (1, .int (nI k)), (2, .int y)] := hl
  have hS : va_S A s.heap s.heap [] := va_S.rf
  obtain ⟨h0m, h1m, h2m, h3m, h4m⟩ := id hn0
  refine lv_aload_n hx hb dX1_change_0 rfl (lv_at hl 0 rfl) ?_
  refine lv_iload_n hx hb dX1_change_1 rfl (lv_at hl 1 rfl) ?_
  refine xk_crV hAt hK (P := bP D ad (ad 100) σ nw n) hP hA hS (xk_recv (q := (RX1, TX1, 6)) hK (b0 hP) rfl) (As := [.int (nI k)]) (rest := []) (b_invaderAt l D A ad σ nw n (by assumption) k (by omega)) (cwV 1 hts (lw_V q633 q635 qs11 q37 q636) rfl rfl rfl cdX1_invaderAt ⟨Nat.le_of_ble_eq_true rfl, Nat.le_of_ble_eq_true rfl⟩) rfl hl.1 rfl (Nat.le_of_ble_eq_true rfl) dX1_change_2 ⟨Nat.le_refl _, Nat.le_refl _⟩ (fun r H locs hq hS => ?_)
  have hq : r = ad (110 + k) ∧ bP D ad (ad 100) σ nw n H := hq
  obtain ⟨rfl, hP⟩ := hq
  refine lv_astore_n (lv' := [(3, .ref (ad (110 + k))), (0, .ref (ad 0)), (1, .int (nI k)), (2, .int y)]) hx hb dX1_change_5 rfl hl (by decide) rfl (fun ls hl => ?_)
  refine lv_iload_n hx hb dX1_change_6 rfl (lv_at hl 3 rfl) ?_
  refine xk_cvS hAt hK (P := bP D ad (ad 100) σ nw n) hP hA hS (As := [.int y]) (rest := []) (b_checkWord l D A (bP D ad (ad 100) σ nw n) y (by assumption)) (va_cwS 1 hts (lw_S q164 q165 q37 q166) rfl rfl rfl cdX1_checkWord ⟨Nat.le_of_ble_eq_true rfl, Nat.le_of_ble_eq_true rfl⟩) rfl hl.1 rfl (Nat.le_of_ble_eq_true rfl) dX1_change_7 ⟨Nat.le_refl _, Nat.le_refl _⟩ (fun H locs hP hS => ?_)
  refine lv_aload_n hx hb dX1_change_10 rfl (lv_at hl 0 rfl) ?_
  refine xk_getN hAt hK (binv hP k (by omega)) (C := RX5) (T := TX5) (N := 5) rfl 1 (by decide) (v := .int (nw (120 + k))) rfl q606 (fun _ h => h) in_X5 dX1_change_11 ?_
  have J22_2 : ∀ (H : Heap) (locs : List Loc) (ls : Array Slot) (t0 : Int32), t0 = xk_b (¬ (nw (120 + k) ≤ 0)) → bP D ad (ad 100) σ nw n H → va_S A s.heap H locs → lv_has ls 5 [(3, .ref (ad (110 + k))), (0, .ref (ad 0)), (1, .int (nI k)), (2, .int y)] → W p l e (xk_R 4 85) s m args below meth c H locs 0 0 Q (F0 m 22 ls [.int t0]) := by
    intro H locs ls t0 et0 hP hS hl
    subst et0
    refine xk_cvS hAt hK (P := bP D ad (ad 100) σ nw n) hP hA hS (As := [.int (xk_b (¬ (nw (120 + k) ≤ 0)))]) (rest := []) (b_checkState l D A (bP D ad (ad 100) σ nw n) (¬ (nw (120 + k) ≤ 0)) (by assumption)) (va_cwS 1 hts (lw_S q340 q341 q37 q342) rfl rfl rfl cdX1_checkState ⟨Nat.le_of_ble_eq_true rfl, Nat.le_of_ble_eq_true rfl⟩) rfl hl.1 rfl (Nat.le_of_ble_eq_true rfl) dX1_change_22 ⟨Nat.le_refl _, Nat.le_refl _⟩ (fun H locs hP hS => ?_)
    refine lv_aload_n hx hb dX1_change_25 rfl (lv_at hl 0 rfl) ?_
    refine xk_getN hAt hK (binv hP k (by omega)) (C := RX5) (T := TX5) (N := 5) rfl 0 (by decide) (v := .int (σ 9 k)) rfl q603 (fun _ h => h) in_X5 dX1_change_26 ?_
    refine lv_istore (lv' := [(4, .int (σ 9 k)), (3, .ref (ad (110 + k))), (0, .ref (ad 0)), (1, .int (nI k)), (2, .int y)]) hx hb dX1_change_29 hl (by decide) rfl (fun ls hl => ?_)
    refine lv_aload_n hx hb dX1_change_31 rfl (lv_at hl 1 rfl) ?_
    refine lv_iload_n hx hb dX1_change_32 rfl (lv_at hl 4 rfl) ?_
    refine xk_putN hAt hK hS (binv hP k (by omega)) (hJ.2 (110 + k) (by unfold bk_dom; omega) (by unfold bk_box; omega)) (C := RX5) (T := TX5) (N := 5) rfl 0 (by decide) (v := .int y) q603 (fun _ h => h) rfl (ty := .int) (by decide +kernel) rfl rfl tyX5 tyX5_ok nmX5 (Nat.le_of_ble_eq_true rfl) in_X5 dX1_change_33 (fun H locs ho oq hz hS => ?_)
    have hP : bP D ad (ad 100) (va_up σ 9 (upd (σ 9) k y)) nw n H := bP_vCo hJ hP hn0 k (by omega) ho oq
    refine lv_iload hx hb dX1_change_36 (lv_at hl 0 rfl) ?_
    exact hR _ _ _ _ _ dX1_change_38 (⟨rfl, hP⟩) hS
  refine lv_if_le (tgt := 21) hx hb dX1_change_14 (by decide) (fun c_1 => ?_) (fun c_1 => ?_)
  · skip
    refine lv_iconst (v := 0) hx hb dX1_change_21 (by decide) ?_
    exact J22_2 _ _ _ 0 ((if_neg (fun h => h c_1)).symm) hP hS (lv_sub hl [0, 1, 2, 3] rfl)
  refine lv_iconst (v := 1) hx hb dX1_change_17 (by decide) ?_
  refine lv_goto (tgt := 22) hx hb dX1_change_18 (by decide) ?_
  exact J22_2 _ _ _ 1 ((if_pos c_1).symm) hP hS (lv_sub hl [0, 1, 2, 3] rfl)
set_option maxHeartbeats 4000000 in
theorem b_why (l : Launch) (D : xk_G) (A : Nat → Prop) (ad : Nat → Nat) (σ : Nat → Nat → Int32) (nw : Nat → Int32) (n : Nat → Nat) (h3m : n 3 ≤ 40) (h4m : n 4 ≤ 8) (b : Nat) (hb2 : b < n 4) : Met l yX1_why (ws_ yX1_why cX1_why 11 (some .int)) (xk_R 4 85) (xk_Pre D A (bP D ad (ad 100) σ nw n) [.ref (ad 0), .int (nI b)]) (xk_Pi A (fun r H => r = bk_why σ nw n b ∧ bP D ad (ad 100) σ nw n H)) 0 0 A := by
  refine xk_startI (by decide +kernel) (Nat.le_of_ble_eq_true rfl) ?_
  intro p e s m args below meth c Q hAt hin hK hA hP hR ls hl
  obtain ⟨hx, hb, hml, hown, hts⟩ := id hAt
  have hl : lv_has ls 11 [(0, .ref (ad 0)), (1, .int (nI b))] := hl
  have hS : va_S A s.heap s.heap [] := va_S.rf
  refine lv_aload_n hx hb dX1_why_0 rfl (lv_at hl 0 rfl) ?_
  refine lv_iload_n hx hb dX1_why_1 rfl (lv_at hl 1 rfl) ?_
  refine xk_crV hAt hK (P := bP D ad (ad 100) σ nw n) hP hA hS (xk_recv (q := (RX1, TX1, 6)) hK (b0 hP) rfl) (As := [.int (nI b)]) (rest := []) (b_invaderAt l D A ad σ nw n (by assumption) b (by omega)) (cwV 1 hts (lw_V q633 q635 qs11 q37 q636) rfl rfl rfl cdX1_invaderAt ⟨Nat.le_of_ble_eq_true rfl, Nat.le_of_ble_eq_true rfl⟩) rfl hl.1 rfl (Nat.le_of_ble_eq_true rfl) dX1_why_2 ⟨Nat.le_refl _, Nat.le_refl _⟩ (fun r H locs hq hS => ?_)
  have hq : r = ad (110 + b) ∧ bP D ad (ad 100) σ nw n H := hq
  obtain ⟨rfl, hP⟩ := hq
  refine lv_astore_n (lv' := [(2, .ref (ad (110 + b))), (0, .ref (ad 0)), (1, .int (nI b))]) hx hb dX1_why_5 rfl hl (by decide) rfl (fun ls hl => ?_)
  refine lv_iconst (v := 0) hx hb dX1_why_6 (by decide) ?_
  refine lv_istore_n (lv' := [(3, .int 0), (2, .ref (ad (110 + b))), (0, .ref (ad 0)), (1, .int (nI b))]) hx hb dX1_why_7 rfl hl (by decide) rfl (fun ls hl => ?_)
  refine lv_iconst (v := 0) hx hb dX1_why_8 (by decide) ?_
  refine lv_istore (lv' := [(4, .int 0), (3, .int 0), (2, .ref (ad (110 + b))), (0, .ref (ad 0)), (1, .int (nI b))]) hx hb dX1_why_9 hl (by decide) rfl (fun ls hl => ?_)
  refine lv_iconst (v := 0) hx hb dX1_why_11 (by decide) ?_
  refine lv_istore (lv' := [(5, .int 0), (4, .int 0), (3, .int 0), (2, .ref (ad (110 + b))), (0, .ref (ad 0)), (1, .int (nI b))]) hx hb dX1_why_12 hl (by decide) rfl (fun ls hl => ?_)
  refine lv_iconst (v := 0) hx hb dX1_why_14 (by decide) ?_
  refine lv_istore (lv' := [(6, .int 0), (5, .int 0), (4, .int 0), (3, .int 0), (2, .ref (ad (110 + b))), (0, .ref (ad 0)), (1, .int (nI b))]) hx hb dX1_why_15 hl (by decide) rfl (fun ls hl => ?_)
  refine lv_iconst (v := 0) hx hb dX1_why_17 (by decide) ?_
  refine lv_istore (lv' := [(7, .int 0), (6, .int 0), (5, .int 0), (4, .int 0), (3, .int 0), (2, .ref (ad (110 + b))), (0, .ref (ad 0)), (1, .int (nI b))]) hx hb dX1_why_18 hl (by decide) rfl (fun ls hl => ?_)
  refine lv_iconst (v := 0) hx hb dX1_why_20 (by decide) ?_
  refine lv_istore (lv' := [(8, .int 0), (7, .int 0), (6, .int 0), (5, .int 0), (4, .int 0), (3, .int 0), (2, .ref (ad (110 + b))), (0, .ref (ad 0)), (1, .int (nI b))]) hx hb dX1_why_21 hl (by decide) rfl (fun ls hl => ?_)
  have L23 : ∀ (fu i23 : Nat), n 3 + 1 ≤ i23 + fu → i23 ≤ n 3 → ∀ (H : Heap) (locs : List Loc) (ls : Array Slot) (v3 : Int32) (v4 : Int32) (v5 : Int32) (v6 : Int32) (v7 : Int32), v3 = bk_w1 σ b i23 → v4 = bk_w2 σ nw b i23 → v5 = bk_w3 σ nw b i23 → v6 = bk_w4 σ nw b i23 → v7 = bk_w5 σ nw b i23 → bP D ad (ad 100) σ nw n H → va_S A s.heap H locs → lv_has ls 11 [(8, .int (nI i23)), (7, .int v7), (6, .int v6), (5, .int v5), (4, .int v4), (3, .int v3), (2, .ref (ad (110 + b))), (0, .ref (ad 0)), (1, .int (nI b))] → W p l e (xk_R 4 85) s m args below meth c H locs 0 0 Q (F0 m 23 ls []) := by
    intro fu
    induction fu with
    | zero => intro i23 h23a h23b; exact absurd h23a (by omega)
    | succ fu ih23 =>
      intro i23 h23a h23b  H locs ls v3 v4 v5 v6 v7 ev3 ev4 ev5 ev6 ev7 hP hS hl
      subst ev3
      subst ev4
      subst ev5
      subst ev6
      subst ev7
      refine lv_iload hx hb dX1_why_23 (lv_at hl 0 rfl) ?_
      refine lv_aload_n hx hb dX1_why_25 rfl (lv_at hl 7 rfl) ?_
      refine xk_getO hAt hK (b0 hP) (C := RX1) (T := TX1) (N := 6) rfl 5 (by decide) (v := .ref (ad 100)) rfl (hts _ q142) (fun _ h => h) in_X1 dX1_why_26 ?_
      refine xk_getN hAt hK (b100 hP) (C := RX2) (T := TX2) (N := 7) rfl 0 (by decide) (v := .ref (ad 101)) rfl q110 (fun _ h => h) in_X2 dX1_why_29 ?_
      refine xk_ciF hAt hK (P := bP D ad (ad 100) σ nw n) hP hA hS (xk_recvL hK (bcl hP)) (As := []) (rest := [.int (nI i23)]) (al_size l D A (bP D ad (ad 100) σ nw n) (ad 101) (ad 104) (n 3) (fun j => ad (120 + j)) (fun _ h => bcl h)) (va_cwF 0 hts (xk_lwF q236 q240 q242 q40 q244) rfl rfl rfl hK.2.2.1 (by decide +kernel) ⟨Nat.le_of_ble_eq_true rfl, Nat.le_of_ble_eq_true rfl⟩) rfl hl.1 rfl (Nat.le_of_ble_eq_true rfl) dX1_why_32 ⟨Nat.le_refl _, Nat.le_refl _⟩ (fun r H locs hq hS => ?_)
      obtain ⟨rfl, hP⟩ := hq
      refine mk_ge (tgt := 189) (a := i23) (b := n 3) hx hb (by omega) (by omega) dX1_why_37 (by decide) (fun c_1 => ?_) (fun c_1 => ?_)
      · skip
        obtain rfl : i23 = n 3 := by omega
        refine lv_aload_n hx hb dX1_why_189 rfl (lv_at hl 6 rfl) ?_
        refine xk_getN hAt hK (binv hP b (by omega)) (C := RX5) (T := TX5) (N := 5) rfl 1 (by decide) (v := .int (nw (120 + b))) rfl q606 (fun _ h => h) in_X5 dX1_why_190 ?_
        refine lv_if_ne (tgt := 198) hx hb dX1_why_193 (by decide) (fun c_2 => ?_) (fun c_2 => ?_)
        · skip
          refine lv_iload_n hx hb dX1_why_198 rfl (lv_at hl 5 rfl) ?_
          have J244_4 : ∀ (H : Heap) (locs : List Loc) (ls : Array Slot) (t0 : Int32), t0 = (if bk_w1 σ b (n 3) = 0 then 2 else (if bk_w2 σ nw b (n 3) = 0 then 3 else (if bk_w3 σ nw b (n 3) = 0 then 4 else (if bk_w4 σ nw b (n 3) = 0 then 5 else (if bk_w5 σ nw b (n 3) = 0 then 6 else 0))))) → bP D ad (ad 100) σ nw n H → va_S A s.heap H locs → lv_has ls 11 [(8, .int (nI (n 3))), (7, .int (bk_w5 σ nw b (n 3))), (6, .int (bk_w4 σ nw b (n 3))), (5, .int (bk_w3 σ nw b (n 3))), (4, .int (bk_w2 σ nw b (n 3))), (3, .int (bk_w1 σ b (n 3))), (2, .ref (ad (110 + b))), (0, .ref (ad 0)), (1, .int (nI b))] → W p l e (xk_R 4 85) s m args below meth c H locs 0 0 Q (F0 m 244 ls [.int t0]) := by
            intro H locs ls t0 et0 hP hS hl
            subst et0
            exact hR _ _ _ _ _ dX1_why_244 (⟨(if_neg c_2).symm, hP⟩) hS
          refine lv_if_ne (tgt := 206) hx hb dX1_why_199 (by decide) (fun c_3 => ?_) (fun c_3 => ?_)
          · skip
            refine lv_iload hx hb dX1_why_206 (lv_at hl 4 rfl) ?_
            refine lv_if_ne (tgt := 215) hx hb dX1_why_208 (by decide) (fun c_5 => ?_) (fun c_5 => ?_)
            · skip
              refine lv_iload hx hb dX1_why_215 (lv_at hl 3 rfl) ?_
              refine lv_if_ne (tgt := 224) hx hb dX1_why_217 (by decide) (fun c_6 => ?_) (fun c_6 => ?_)
              · skip
                refine lv_iload hx hb dX1_why_224 (lv_at hl 2 rfl) ?_
                refine lv_if_ne (tgt := 233) hx hb dX1_why_226 (by decide) (fun c_7 => ?_) (fun c_7 => ?_)
                · skip
                  refine lv_iload hx hb dX1_why_233 (lv_at hl 1 rfl) ?_
                  refine lv_if_ne (tgt := 243) hx hb dX1_why_235 (by decide) (fun c_8 => ?_) (fun c_8 => ?_)
                  · skip
                    refine lv_iconst (v := 0) hx hb dX1_why_243 (by decide) ?_
                    exact J244_4 _ _ _ 0 ((((((if_neg c_8).symm).trans (if_neg c_7).symm).trans (if_neg c_6).symm).trans (if_neg c_5).symm).trans (if_neg c_3).symm) hP hS (lv_sub hl [0, 1, 2, 3, 4, 5, 6, 7, 8] rfl)
                  refine lv_bipush (v := 6) hx hb dX1_why_238 (by decide) ?_
                  refine lv_goto (tgt := 244) hx hb dX1_why_240 (by decide) ?_
                  exact J244_4 _ _ _ 6 ((((((if_pos c_8).symm).trans (if_neg c_7).symm).trans (if_neg c_6).symm).trans (if_neg c_5).symm).trans (if_neg c_3).symm) hP hS (lv_sub hl [0, 1, 2, 3, 4, 5, 6, 7, 8] rfl)
                refine lv_iconst (v := 5) hx hb dX1_why_229 (by decide) ?_
                refine lv_goto (tgt := 244) hx hb dX1_why_230 (by decide) ?_
                exact J244_4 _ _ _ 5 (((((if_pos c_7).symm).trans (if_neg c_6).symm).trans (if_neg c_5).symm).trans (if_neg c_3).symm) hP hS (lv_sub hl [0, 1, 2, 3, 4, 5, 6, 7, 8] rfl)
              refine lv_iconst (v := 4) hx hb dX1_why_220 (by decide) ?_
              refine lv_goto (tgt := 244) hx hb dX1_why_221 (by decide) ?_
              exact J244_4 _ _ _ 4 ((((if_pos c_6).symm).trans (if_neg c_5).symm).trans (if_neg c_3).symm) hP hS (lv_sub hl [0, 1, 2, 3, 4, 5, 6, 7, 8] rfl)
            refine lv_iconst (v := 3) hx hb dX1_why_211 (by decide) ?_
            refine lv_goto (tgt := 244) hx hb dX1_why_212 (by decide) ?_
            exact J244_4 _ _ _ 3 (((if_pos c_5).symm).trans (if_neg c_3).symm) hP hS (lv_sub hl [0, 1, 2, 3, 4, 5, 6, 7, 8] rfl)
          refine lv_iconst (v := 2) hx hb dX1_why_202 (by decide) ?_
          refine lv_goto (tgt := 244) hx hb dX1_why_203 (by decide) ?_
          exact J244_4 _ _ _ 2 ((if_pos c_3).symm) hP hS (lv_sub hl [0, 1, 2, 3, 4, 5, 6, 7, 8] rfl)
        refine lv_iconst (v := 1) hx hb dX1_why_196 (by decide) ?_
        exact hR _ _ _ _ _ dX1_why_197 (⟨(if_pos c_2).symm, hP⟩) hS
      refine lv_aload_n hx hb dX1_why_40 rfl (lv_at hl 7 rfl) ?_
      refine xk_getO hAt hK (b0 hP) (C := RX1) (T := TX1) (N := 6) rfl 5 (by decide) (v := .ref (ad 100)) rfl (hts _ q142) (fun _ h => h) in_X1 dX1_why_41 ?_
      refine xk_getN hAt hK (b100 hP) (C := RX2) (T := TX2) (N := 7) rfl 0 (by decide) (v := .ref (ad 101)) rfl q110 (fun _ h => h) in_X2 dX1_why_44 ?_
      refine lv_iload hx hb dX1_why_47 (lv_at hl 0 rfl) ?_
      refine xk_crF hAt hK (P := bP D ad (ad 100) σ nw n) hP hA hS (xk_recvL hK (bcl hP)) (As := [.int (nI i23)]) (rest := []) (al_get l D A (bP D ad (ad 100) σ nw n) (ad 101) (ad 104) (n 3) (fun j => ad (120 + j)) (fun _ h => bcl h) i23 (by omega) (by omega)) (va_cwF 1 hts (xk_lwF q250 q253 q255 q40 q257) rfl rfl rfl hK.2.2.2.1 (by decide +kernel) ⟨Nat.le_of_ble_eq_true rfl, Nat.le_of_ble_eq_true rfl⟩) rfl hl.1 rfl (Nat.le_of_ble_eq_true rfl) dX1_why_49 ⟨Nat.le_refl _, Nat.le_refl _⟩ (fun r H locs hq hS => ?_)
      have hq : r = ad (120 + i23) ∧ bP D ad (ad 100) σ nw n H := hq
      obtain ⟨rfl, hP⟩ := hq
      refine xk_cast hAt hK (bcell hP i23 (by omega)) rfl rfl (hts _ q525) dX1_why_54 ?_
      refine lv_astore (lv' := [(9, .ref (ad (120 + i23))), (8, .int (nI i23)), (7, .int (bk_w5 σ nw b i23)), (6, .int (bk_w4 σ nw b i23)), (5, .int (bk_w3 σ nw b i23)), (4, .int (bk_w2 σ nw b i23)), (3, .int (bk_w1 σ b i23)), (2, .ref (ad (110 + b))), (0, .ref (ad 0)), (1, .int (nI b))]) hx hb dX1_why_57 hl (by decide) rfl (fun ls hl => ?_)
      refine lv_aload_n hx hb dX1_why_59 rfl (lv_at hl 8 rfl) ?_
      refine lv_aload hx hb dX1_why_60 (lv_at hl 0 rfl) ?_
      refine xk_getN hAt hK (bcell hP i23 (by omega)) (C := RX4) (T := TX4) (N := 7) rfl 1 (by decide) (v := .int (σ 6 i23)) rfl q534 (fun _ h => h) in_X4 dX1_why_62 ?_
      refine lv_aload_n hx hb dX1_why_65 rfl (lv_at hl 7 rfl) ?_
      refine xk_getN hAt hK (binv hP b (by omega)) (C := RX5) (T := TX5) (N := 5) rfl 0 (by decide) (v := .int (σ 9 b)) rfl q603 (fun _ h => h) in_X5 dX1_why_66 ?_
      refine xk_ciV hAt hK (P := bP D ad (ad 100) σ nw n) hP hA hS (xk_recv (q := (RX1, TX1, 6)) hK (b0 hP) rfl) (As := [.int (σ 6 i23), .int (σ 9 b)]) (rest := []) (b_touches l D A ad (ad 100) σ nw n (σ 6 i23) (σ 9 b)) (cwV 2 hts (lw_V q273 q275 qs2 q37 q276) rfl rfl rfl cdX1_touches ⟨Nat.le_of_ble_eq_true rfl, Nat.le_of_ble_eq_true rfl⟩) rfl hl.1 rfl (Nat.le_of_ble_eq_true rfl) dX1_why_69 ⟨Nat.le_refl _, Nat.le_refl _⟩ (fun r H locs hq hS => ?_)
      obtain ⟨rfl, hP⟩ := hq
      refine lv_istore (lv' := [(10, .int (xk_b (mk_tch σ (σ 6 i23) (σ 9 b)))), (9, .ref (ad (120 + i23))), (8, .int (nI i23)), (7, .int (bk_w5 σ nw b i23)), (6, .int (bk_w4 σ nw b i23)), (5, .int (bk_w3 σ nw b i23)), (4, .int (bk_w2 σ nw b i23)), (3, .int (bk_w1 σ b i23)), (2, .ref (ad (110 + b))), (0, .ref (ad 0)), (1, .int (nI b))]) hx hb dX1_why_72 hl (by decide) rfl (fun ls hl => ?_)
      refine lv_iload_n hx hb dX1_why_74 rfl (lv_at hl 7 rfl) ?_
      refine lv_iload hx hb dX1_why_75 (lv_at hl 0 rfl) ?_
      refine lv_ior hx hb dX1_why_77 ?_
      refine lv_istore_n (lv' := [(3, .int ((bk_w1 σ b i23) ||| (xk_b (mk_tch σ (σ 6 i23) (σ 9 b))))), (10, .int (xk_b (mk_tch σ (σ 6 i23) (σ 9 b)))), (9, .ref (ad (120 + i23))), (8, .int (nI i23)), (7, .int (bk_w5 σ nw b i23)), (6, .int (bk_w4 σ nw b i23)), (5, .int (bk_w3 σ nw b i23)), (4, .int (bk_w2 σ nw b i23)), (2, .ref (ad (110 + b))), (0, .ref (ad 0)), (1, .int (nI b))]) hx hb dX1_why_78 rfl hl (by decide) rfl (fun ls hl => ?_)
      refine lv_iload hx hb dX1_why_79 (lv_at hl 7 rfl) ?_
      refine lv_iload hx hb dX1_why_81 (lv_at hl 1 rfl) ?_
      have J99_10 : ∀ (H : Heap) (locs : List Loc) (ls : Array Slot) (t0 : Int32), t0 = xk_b (mk_tch σ (σ 6 i23) (σ 9 b) ∧ ¬ (bk_lost nw i23)) → bP D ad (ad 100) σ nw n H → va_S A s.heap H locs → lv_has ls 11 [(3, .int ((bk_w1 σ b i23) ||| (xk_b (mk_tch σ (σ 6 i23) (σ 9 b))))), (10, .int (xk_b (mk_tch σ (σ 6 i23) (σ 9 b)))), (9, .ref (ad (120 + i23))), (8, .int (nI i23)), (7, .int (bk_w5 σ nw b i23)), (6, .int (bk_w4 σ nw b i23)), (5, .int (bk_w3 σ nw b i23)), (4, .int (bk_w2 σ nw b i23)), (2, .ref (ad (110 + b))), (0, .ref (ad 0)), (1, .int (nI b))] → W p l e (xk_R 4 85) s m args below meth c H locs 0 0 Q (F0 m 99 ls [.int t0, .int (bk_w2 σ nw b i23)]) := by
        intro H locs ls t0 et0 hP hS hl
        subst et0
        refine lv_ior hx hb dX1_why_99 ?_
        refine lv_istore (lv' := [(4, .int ((bk_w2 σ nw b i23) ||| (xk_b (mk_tch σ (σ 6 i23) (σ 9 b) ∧ ¬ (bk_lost nw i23))))), (3, .int ((bk_w1 σ b i23) ||| (xk_b (mk_tch σ (σ 6 i23) (σ 9 b))))), (10, .int (xk_b (mk_tch σ (σ 6 i23) (σ 9 b)))), (9, .ref (ad (120 + i23))), (8, .int (nI i23)), (7, .int (bk_w5 σ nw b i23)), (6, .int (bk_w4 σ nw b i23)), (5, .int (bk_w3 σ nw b i23)), (2, .ref (ad (110 + b))), (0, .ref (ad 0)), (1, .int (nI b))]) hx hb dX1_why_100 hl (by decide) rfl (fun ls hl => ?_)
        refine lv_iload hx hb dX1_why_102 (lv_at hl 7 rfl) ?_
        refine lv_iload hx hb dX1_why_104 (lv_at hl 2 rfl) ?_
        have J131_12 : ∀ (H : Heap) (locs : List Loc) (ls : Array Slot) (t0 : Int32), t0 = xk_b (mk_tch σ (σ 6 i23) (σ 9 b) ∧ (¬ (bk_lost nw i23) ∧ ¬ (nw i23 = 4))) → bP D ad (ad 100) σ nw n H → va_S A s.heap H locs → lv_has ls 11 [(4, .int ((bk_w2 σ nw b i23) ||| (xk_b (mk_tch σ (σ 6 i23) (σ 9 b) ∧ ¬ (bk_lost nw i23))))), (3, .int ((bk_w1 σ b i23) ||| (xk_b (mk_tch σ (σ 6 i23) (σ 9 b))))), (10, .int (xk_b (mk_tch σ (σ 6 i23) (σ 9 b)))), (9, .ref (ad (120 + i23))), (8, .int (nI i23)), (7, .int (bk_w5 σ nw b i23)), (6, .int (bk_w4 σ nw b i23)), (5, .int (bk_w3 σ nw b i23)), (2, .ref (ad (110 + b))), (0, .ref (ad 0)), (1, .int (nI b))] → W p l e (xk_R 4 85) s m args below meth c H locs 0 0 Q (F0 m 131 ls [.int t0, .int (bk_w3 σ nw b i23)]) := by
          intro H locs ls t0 et0 hP hS hl
          subst et0
          refine lv_ior hx hb dX1_why_131 ?_
          refine lv_istore (lv' := [(5, .int ((bk_w3 σ nw b i23) ||| (xk_b (mk_tch σ (σ 6 i23) (σ 9 b) ∧ (¬ (bk_lost nw i23) ∧ ¬ (nw i23 = 4)))))), (4, .int ((bk_w2 σ nw b i23) ||| (xk_b (mk_tch σ (σ 6 i23) (σ 9 b) ∧ ¬ (bk_lost nw i23))))), (3, .int ((bk_w1 σ b i23) ||| (xk_b (mk_tch σ (σ 6 i23) (σ 9 b))))), (10, .int (xk_b (mk_tch σ (σ 6 i23) (σ 9 b)))), (9, .ref (ad (120 + i23))), (8, .int (nI i23)), (7, .int (bk_w5 σ nw b i23)), (6, .int (bk_w4 σ nw b i23)), (2, .ref (ad (110 + b))), (0, .ref (ad 0)), (1, .int (nI b))]) hx hb dX1_why_132 hl (by decide) rfl (fun ls hl => ?_)
          refine lv_iload hx hb dX1_why_134 (lv_at hl 7 rfl) ?_
          refine lv_iload hx hb dX1_why_136 (lv_at hl 3 rfl) ?_
          have J155_14 : ∀ (H : Heap) (locs : List Loc) (ls : Array Slot) (t0 : Int32), t0 = xk_b (mk_tch σ (σ 6 i23) (σ 9 b) ∧ nw i23 = 3) → bP D ad (ad 100) σ nw n H → va_S A s.heap H locs → lv_has ls 11 [(5, .int ((bk_w3 σ nw b i23) ||| (xk_b (mk_tch σ (σ 6 i23) (σ 9 b) ∧ (¬ (bk_lost nw i23) ∧ ¬ (nw i23 = 4)))))), (4, .int ((bk_w2 σ nw b i23) ||| (xk_b (mk_tch σ (σ 6 i23) (σ 9 b) ∧ ¬ (bk_lost nw i23))))), (3, .int ((bk_w1 σ b i23) ||| (xk_b (mk_tch σ (σ 6 i23) (σ 9 b))))), (10, .int (xk_b (mk_tch σ (σ 6 i23) (σ 9 b)))), (9, .ref (ad (120 + i23))), (8, .int (nI i23)), (7, .int (bk_w5 σ nw b i23)), (6, .int (bk_w4 σ nw b i23)), (2, .ref (ad (110 + b))), (0, .ref (ad 0)), (1, .int (nI b))] → W p l e (xk_R 4 85) s m args below meth c H locs 0 0 Q (F0 m 155 ls [.int t0, .int (bk_w4 σ nw b i23)]) := by
            intro H locs ls t0 et0 hP hS hl
            subst et0
            refine lv_ior hx hb dX1_why_155 ?_
            refine lv_istore (lv' := [(6, .int ((bk_w4 σ nw b i23) ||| (xk_b (mk_tch σ (σ 6 i23) (σ 9 b) ∧ nw i23 = 3)))), (5, .int ((bk_w3 σ nw b i23) ||| (xk_b (mk_tch σ (σ 6 i23) (σ 9 b) ∧ (¬ (bk_lost nw i23) ∧ ¬ (nw i23 = 4)))))), (4, .int ((bk_w2 σ nw b i23) ||| (xk_b (mk_tch σ (σ 6 i23) (σ 9 b) ∧ ¬ (bk_lost nw i23))))), (3, .int ((bk_w1 σ b i23) ||| (xk_b (mk_tch σ (σ 6 i23) (σ 9 b))))), (10, .int (xk_b (mk_tch σ (σ 6 i23) (σ 9 b)))), (9, .ref (ad (120 + i23))), (8, .int (nI i23)), (7, .int (bk_w5 σ nw b i23)), (2, .ref (ad (110 + b))), (0, .ref (ad 0)), (1, .int (nI b))]) hx hb dX1_why_156 hl (by decide) rfl (fun ls hl => ?_)
            refine lv_iload hx hb dX1_why_158 (lv_at hl 7 rfl) ?_
            refine lv_iload hx hb dX1_why_160 (lv_at hl 4 rfl) ?_
            have J180_16 : ∀ (H : Heap) (locs : List Loc) (ls : Array Slot) (t0 : Int32), t0 = xk_b (mk_tch σ (σ 6 i23) (σ 9 b) ∧ bk_is σ nw i23 0 3) → bP D ad (ad 100) σ nw n H → va_S A s.heap H locs → lv_has ls 11 [(6, .int ((bk_w4 σ nw b i23) ||| (xk_b (mk_tch σ (σ 6 i23) (σ 9 b) ∧ nw i23 = 3)))), (5, .int ((bk_w3 σ nw b i23) ||| (xk_b (mk_tch σ (σ 6 i23) (σ 9 b) ∧ (¬ (bk_lost nw i23) ∧ ¬ (nw i23 = 4)))))), (4, .int ((bk_w2 σ nw b i23) ||| (xk_b (mk_tch σ (σ 6 i23) (σ 9 b) ∧ ¬ (bk_lost nw i23))))), (3, .int ((bk_w1 σ b i23) ||| (xk_b (mk_tch σ (σ 6 i23) (σ 9 b))))), (10, .int (xk_b (mk_tch σ (σ 6 i23) (σ 9 b)))), (9, .ref (ad (120 + i23))), (8, .int (nI i23)), (7, .int (bk_w5 σ nw b i23)), (2, .ref (ad (110 + b))), (0, .ref (ad 0)), (1, .int (nI b))] → W p l e (xk_R 4 85) s m args below meth c H locs 0 0 Q (F0 m 180 ls [.int t0, .int (bk_w5 σ nw b i23)]) := by
              intro H locs ls t0 et0 hP hS hl
              subst et0
              refine lv_ior hx hb dX1_why_180 ?_
              refine lv_istore (lv' := [(7, .int ((bk_w5 σ nw b i23) ||| (xk_b (mk_tch σ (σ 6 i23) (σ 9 b) ∧ bk_is σ nw i23 0 3)))), (6, .int ((bk_w4 σ nw b i23) ||| (xk_b (mk_tch σ (σ 6 i23) (σ 9 b) ∧ nw i23 = 3)))), (5, .int ((bk_w3 σ nw b i23) ||| (xk_b (mk_tch σ (σ 6 i23) (σ 9 b) ∧ (¬ (bk_lost nw i23) ∧ ¬ (nw i23 = 4)))))), (4, .int ((bk_w2 σ nw b i23) ||| (xk_b (mk_tch σ (σ 6 i23) (σ 9 b) ∧ ¬ (bk_lost nw i23))))), (3, .int ((bk_w1 σ b i23) ||| (xk_b (mk_tch σ (σ 6 i23) (σ 9 b))))), (10, .int (xk_b (mk_tch σ (σ 6 i23) (σ 9 b)))), (9, .ref (ad (120 + i23))), (8, .int (nI i23)), (2, .ref (ad (110 + b))), (0, .ref (ad 0)), (1, .int (nI b))]) hx hb dX1_why_181 hl (by decide) rfl (fun ls hl => ?_)
              refine lv_iinc (v := nI (i23 + 1)) (lv' := [(8, .int (nI (i23 + 1))), (7, .int ((bk_w5 σ nw b i23) ||| (xk_b (mk_tch σ (σ 6 i23) (σ 9 b) ∧ bk_is σ nw i23 0 3)))), (6, .int ((bk_w4 σ nw b i23) ||| (xk_b (mk_tch σ (σ 6 i23) (σ 9 b) ∧ nw i23 = 3)))), (5, .int ((bk_w3 σ nw b i23) ||| (xk_b (mk_tch σ (σ 6 i23) (σ 9 b) ∧ (¬ (bk_lost nw i23) ∧ ¬ (nw i23 = 4)))))), (4, .int ((bk_w2 σ nw b i23) ||| (xk_b (mk_tch σ (σ 6 i23) (σ 9 b) ∧ ¬ (bk_lost nw i23))))), (3, .int ((bk_w1 σ b i23) ||| (xk_b (mk_tch σ (σ 6 i23) (σ 9 b))))), (10, .int (xk_b (mk_tch σ (σ 6 i23) (σ 9 b)))), (9, .ref (ad (120 + i23))), (2, .ref (ad (110 + b))), (0, .ref (ad 0)), (1, .int (nI b))]) hx hb dX1_why_183 hl (k := 7) rfl (xk_inc i23) (by decide) rfl (fun ls hl => ?_)
              refine lv_goto (tgt := 23) hx hb dX1_why_186 (by decide) ?_
              exact ih23 (i23 + 1) (by omega) (by omega)  _ _ _ ((bk_w1 σ b i23) ||| (xk_b (mk_tch σ (σ 6 i23) (σ 9 b)))) ((bk_w2 σ nw b i23) ||| (xk_b (mk_tch σ (σ 6 i23) (σ 9 b) ∧ ¬ (bk_lost nw i23)))) ((bk_w3 σ nw b i23) ||| (xk_b (mk_tch σ (σ 6 i23) (σ 9 b) ∧ (¬ (bk_lost nw i23) ∧ ¬ (nw i23 = 4))))) ((bk_w4 σ nw b i23) ||| (xk_b (mk_tch σ (σ 6 i23) (σ 9 b) ∧ nw i23 = 3))) ((bk_w5 σ nw b i23) ||| (xk_b (mk_tch σ (σ 6 i23) (σ 9 b) ∧ bk_is σ nw i23 0 3))) (rfl) (rfl) (rfl) (rfl) (rfl) hP hS (lv_sub hl [0, 1, 2, 3, 4, 5, 8, 9, 10] rfl)
            refine xk_ifeq (tgt := 179) hx hb dX1_why_162 (by decide) (fun c_15 => ?_) (fun c_15 => ?_)
            · skip
              refine lv_iconst (v := 0) hx hb dX1_why_179 (by decide) ?_
              exact J180_16 _ _ _ 0 ((if_neg (fun h => c_15 h.1)).symm) hP hS (lv_sub hl [0, 1, 2, 3, 4, 5, 6, 7, 8, 9, 10] rfl)
            refine lv_aload hx hb dX1_why_165 (lv_at hl 5 rfl) ?_
            refine lv_iconst (v := 0) hx hb dX1_why_167 (by decide) ?_
            refine lv_iconst (v := 3) hx hb dX1_why_168 (by decide) ?_
            refine xk_ciV hAt hK (P := bP D ad (ad 100) σ nw n) hP hA hS (xk_recv (q := (RX4, TX4, 7)) hK (bcell hP i23 (by omega)) rfl) (As := [.int 0, .int 3]) (rest := [.int (bk_w5 σ nw b i23)]) (b_isC l D A ad (ad 100) σ nw n (by assumption) i23 (by omega) 0 3) (cwV 2 hts (lw_V q655 q656 q657 q60 q658) rfl rfl rfl cdX4_is ⟨Nat.le_of_ble_eq_true rfl, Nat.le_of_ble_eq_true rfl⟩) rfl hl.1 rfl (Nat.le_of_ble_eq_true rfl) dX1_why_169 ⟨Nat.le_refl _, Nat.le_refl _⟩ (fun r H locs hq hS => ?_)
            obtain ⟨rfl, hP⟩ := hq
            refine xk_ifeq (tgt := 179) hx hb dX1_why_172 (by decide) (fun c_17 => ?_) (fun c_17 => ?_)
            · skip
              refine lv_iconst (v := 0) hx hb dX1_why_179 (by decide) ?_
              exact J180_16 _ _ _ 0 ((if_neg (fun h => c_17 h.2)).symm) hP hS (lv_sub hl [0, 1, 2, 3, 4, 5, 6, 7, 8, 9, 10] rfl)
            refine lv_iconst (v := 1) hx hb dX1_why_175 (by decide) ?_
            refine lv_goto (tgt := 180) hx hb dX1_why_176 (by decide) ?_
            exact J180_16 _ _ _ 1 ((if_pos ⟨c_15, c_17⟩).symm) hP hS (lv_sub hl [0, 1, 2, 3, 4, 5, 6, 7, 8, 9, 10] rfl)
          refine xk_ifeq (tgt := 154) hx hb dX1_why_138 (by decide) (fun c_13 => ?_) (fun c_13 => ?_)
          · skip
            refine lv_iconst (v := 0) hx hb dX1_why_154 (by decide) ?_
            exact J155_14 _ _ _ 0 ((if_neg (fun h => c_13 h.1)).symm) hP hS (lv_sub hl [0, 1, 2, 3, 4, 5, 6, 7, 8, 9, 10] rfl)
          refine lv_aload hx hb dX1_why_141 (lv_at hl 4 rfl) ?_
          refine xk_getN hAt hK (bcell hP i23 (by omega)) (C := RX4) (T := TX4) (N := 7) rfl 4 (by decide) (v := .int (nw i23)) rfl q542 (fun _ h => h) in_X4 dX1_why_143 ?_
          refine lv_iconst (v := 3) hx hb dX1_why_146 (by decide) ?_
          refine lv_icmp_ne (tgt := 154) hx hb dX1_why_147 (by decide) (fun c_18 => ?_) (fun c_18 => ?_)
          · skip
            refine lv_iconst (v := 0) hx hb dX1_why_154 (by decide) ?_
            exact J155_14 _ _ _ 0 ((if_neg (fun h => c_18 h.2)).symm) hP hS (lv_sub hl [0, 1, 2, 3, 4, 5, 6, 7, 8, 9, 10] rfl)
          refine lv_iconst (v := 1) hx hb dX1_why_150 (by decide) ?_
          refine lv_goto (tgt := 155) hx hb dX1_why_151 (by decide) ?_
          exact J155_14 _ _ _ 1 ((if_pos ⟨c_13, c_18⟩).symm) hP hS (lv_sub hl [0, 1, 2, 3, 4, 5, 6, 7, 8, 9, 10] rfl)
        refine xk_ifeq (tgt := 130) hx hb dX1_why_106 (by decide) (fun c_11 => ?_) (fun c_11 => ?_)
        · skip
          refine lv_iconst (v := 0) hx hb dX1_why_130 (by decide) ?_
          exact J131_12 _ _ _ 0 ((if_neg (fun h => c_11 h.1)).symm) hP hS (lv_sub hl [0, 1, 2, 3, 4, 5, 6, 7, 8, 9, 10] rfl)
        refine lv_aload hx hb dX1_why_109 (lv_at hl 3 rfl) ?_
        refine xk_ciV hAt hK (P := bP D ad (ad 100) σ nw n) hP hA hS (xk_recv (q := (RX4, TX4, 7)) hK (bcell hP i23 (by omega)) rfl) (As := []) (rest := [.int (bk_w3 σ nw b i23)]) (b_isLostC l D A ad (ad 100) σ nw n (by assumption) i23 (by omega)) (cwV 0 hts (lw_V q651 q652 q653 q60 q654) rfl rfl rfl cdX4_isLost ⟨Nat.le_of_ble_eq_true rfl, Nat.le_of_ble_eq_true rfl⟩) rfl hl.1 rfl (Nat.le_of_ble_eq_true rfl) dX1_why_111 ⟨Nat.le_refl _, Nat.le_refl _⟩ (fun r H locs hq hS => ?_)
        obtain ⟨rfl, hP⟩ := hq
        refine xk_ifne (tgt := 130) hx hb dX1_why_114 (by decide) (fun c_19 => ?_) (fun c_19 => ?_)
        · skip
          refine lv_iconst (v := 0) hx hb dX1_why_130 (by decide) ?_
          exact J131_12 _ _ _ 0 ((if_neg (fun h => (fun h => h.1 c_19) h.2)).symm) hP hS (lv_sub hl [0, 1, 2, 3, 4, 5, 6, 7, 8, 9, 10] rfl)
        refine lv_aload hx hb dX1_why_117 (lv_at hl 3 rfl) ?_
        refine xk_getN hAt hK (bcell hP i23 (by omega)) (C := RX4) (T := TX4) (N := 7) rfl 4 (by decide) (v := .int (nw i23)) rfl q542 (fun _ h => h) in_X4 dX1_why_119 ?_
        refine lv_iconst (v := 4) hx hb dX1_why_122 (by decide) ?_
        refine lv_icmp_eq (tgt := 130) hx hb dX1_why_123 (by decide) (fun c_20 => ?_) (fun c_20 => ?_)
        · skip
          refine lv_iconst (v := 0) hx hb dX1_why_130 (by decide) ?_
          exact J131_12 _ _ _ 0 ((if_neg (fun h => (fun h => (fun h => h c_20) h.2) h.2)).symm) hP hS (lv_sub hl [0, 1, 2, 3, 4, 5, 6, 7, 8, 9, 10] rfl)
        refine lv_iconst (v := 1) hx hb dX1_why_126 (by decide) ?_
        refine lv_goto (tgt := 131) hx hb dX1_why_127 (by decide) ?_
        exact J131_12 _ _ _ 1 ((if_pos ⟨c_11, ⟨c_19, c_20⟩⟩).symm) hP hS (lv_sub hl [0, 1, 2, 3, 4, 5, 6, 7, 8, 9, 10] rfl)
      refine xk_ifeq (tgt := 98) hx hb dX1_why_83 (by decide) (fun c_9 => ?_) (fun c_9 => ?_)
      · skip
        refine lv_iconst (v := 0) hx hb dX1_why_98 (by decide) ?_
        exact J99_10 _ _ _ 0 ((if_neg (fun h => c_9 h.1)).symm) hP hS (lv_sub hl [0, 1, 2, 3, 4, 5, 6, 7, 8, 9, 10] rfl)
      refine lv_aload hx hb dX1_why_86 (lv_at hl 2 rfl) ?_
      refine xk_ciV hAt hK (P := bP D ad (ad 100) σ nw n) hP hA hS (xk_recv (q := (RX4, TX4, 7)) hK (bcell hP i23 (by omega)) rfl) (As := []) (rest := [.int (bk_w2 σ nw b i23)]) (b_isLostC l D A ad (ad 100) σ nw n (by assumption) i23 (by omega)) (cwV 0 hts (lw_V q651 q652 q653 q60 q654) rfl rfl rfl cdX4_isLost ⟨Nat.le_of_ble_eq_true rfl, Nat.le_of_ble_eq_true rfl⟩) rfl hl.1 rfl (Nat.le_of_ble_eq_true rfl) dX1_why_88 ⟨Nat.le_refl _, Nat.le_refl _⟩ (fun r H locs hq hS => ?_)
      obtain ⟨rfl, hP⟩ := hq
      refine xk_ifne (tgt := 98) hx hb dX1_why_91 (by decide) (fun c_21 => ?_) (fun c_21 => ?_)
      · skip
        refine lv_iconst (v := 0) hx hb dX1_why_98 (by decide) ?_
        exact J99_10 _ _ _ 0 ((if_neg (fun h => (fun h => h c_21) h.2)).symm) hP hS (lv_sub hl [0, 1, 2, 3, 4, 5, 6, 7, 8, 9, 10] rfl)
      refine lv_iconst (v := 1) hx hb dX1_why_94 (by decide) ?_
      refine lv_goto (tgt := 99) hx hb dX1_why_95 (by decide) ?_
      exact J99_10 _ _ _ 1 ((if_pos ⟨c_9, c_21⟩).symm) hP hS (lv_sub hl [0, 1, 2, 3, 4, 5, 6, 7, 8, 9, 10] rfl)
  exact L23 (n 3 + 1) 0 (by omega) (by omega)  _ _ _ 0 0 0 0 0 (rfl) (rfl) (rfl) (rfl) (rfl) hP hS (lv_sub hl [0, 1, 2, 3, 4, 5, 6, 7, 8] rfl)
set_option maxHeartbeats 4000000 in
theorem b_pass (l : Launch) (D : xk_G) (A : Nat → Prop) (ad : Nat → Nat) (σ : Nat → Nat → Int32) (nw : Nat → Int32) (n : Nat → Nat) (hJ : bk_ok A ad n) (hn0 : bk_n n) (x : Nat) (hx1 : 1 ≤ x) (hx2 : x ≤ 48) (hst : ¬ (9999 < (nw 154 + nI x))) : Met l yX1_pass (ws_ yX1_pass cX1_pass 3 (some .int)) (xk_R 8 182) (xk_Pre D A (bP D ad (ad 100) σ nw n) [.ref (ad 0), .int (nI x)]) (xk_Pi A (fun r H => r = bk_hours σ n nw x 154 ∧ bP D ad (ad 100) σ (bk_hours σ n nw x) n H)) 0 0 A := by
  refine xk_startI (by decide +kernel) (Nat.le_of_ble_eq_true rfl) ?_
  intro p e s m args below meth c Q hAt hin hK hA hP hR ls hl
  obtain ⟨hx, hb, hml, hown, hts⟩ := id hAt
  have hl : lv_has ls 3 [(0, .ref (ad 0)), (1, .int (nI x))] := hl
  have hS : va_S A s.heap s.heap [] := va_S.rf
  obtain ⟨h0m, h1m, h2m, h3m, h4m⟩ := id hn0
  refine lv_iload_n hx hb dX1_pass_0 rfl (lv_at hl 1 rfl) ?_
  refine lv_iconst (v := 1) hx hb dX1_pass_1 (by decide) ?_
  refine lv_bipush (v := 48) hx hb dX1_pass_2 (by decide) ?_
  refine xk_cvS hAt hK (P := bP D ad (ad 100) σ nw n) hP hA hS (As := [.int (nI x), .int 1, .int 48]) (rest := []) (b_check l D A (bP D ad (ad 100) σ nw n) (nI x) 1 48 (mk_inP1 (k := 48) (by omega) (by omega) (by omega))) (va_cwS 3 hts (lw_S q167 q168 q37 q169) rfl rfl rfl cdX1_check ⟨Nat.le_of_ble_eq_true rfl, Nat.le_of_ble_eq_true rfl⟩) rfl hl.1 rfl (Nat.le_of_ble_eq_true rfl) dX1_pass_4 ⟨Nat.le_refl _, Nat.le_refl _⟩ (fun H locs hP hS => ?_)
  refine lv_aload_n hx hb dX1_pass_7 rfl (lv_at hl 0 rfl) ?_
  refine xk_getO hAt hK (b0 hP) (C := RX1) (T := TX1) (N := 6) rfl 5 (by decide) (v := .ref (ad 100)) rfl (hts _ q142) (fun _ h => h) in_X1 dX1_pass_8 ?_
  refine xk_getN hAt hK (b100 hP) (C := RX2) (T := TX2) (N := 7) rfl 5 (by decide) (v := .int (nw 154)) rfl q118 (fun _ h => h) in_X2 dX1_pass_11 ?_
  refine lv_iload_n hx hb dX1_pass_14 rfl (lv_at hl 1 rfl) ?_
  refine lv_iadd hx hb dX1_pass_15 ?_
  refine lv_sipush (v := 9999) hx hb dX1_pass_16 (by decide) ?_
  have J27_2 : ∀ (H : Heap) (locs : List Loc) (ls : Array Slot) (t0 : Int32), t0 = xk_b (¬ (9999 < ((nw 154) + (nI x)))) → bP D ad (ad 100) σ nw n H → va_S A s.heap H locs → lv_has ls 3 [(0, .ref (ad 0)), (1, .int (nI x))] → W p l e (xk_R 8 182) s m args below meth c H locs 0 0 Q (F0 m 27 ls [.int t0]) := by
    intro H locs ls t0 et0 hP hS hl
    subst et0
    refine xk_cvS hAt hK (P := bP D ad (ad 100) σ nw n) hP hA hS (As := [.int (xk_b (¬ (9999 < ((nw 154) + (nI x)))))]) (rest := []) (b_checkState l D A (bP D ad (ad 100) σ nw n) (¬ (9999 < ((nw 154) + (nI x)))) (by assumption)) (va_cwS 1 hts (lw_S q340 q341 q37 q342) rfl rfl rfl cdX1_checkState ⟨Nat.le_of_ble_eq_true rfl, Nat.le_of_ble_eq_true rfl⟩) rfl hl.1 rfl (Nat.le_of_ble_eq_true rfl) dX1_pass_27 ⟨Nat.le_refl _, Nat.le_refl _⟩ (fun H locs hP hS => ?_)
    refine lv_iload_n hx hb dX1_pass_30 rfl (lv_at hl 1 rfl) ?_
    refine lv_istore_n (lv' := [(2, .int (nI x)), (0, .ref (ad 0)), (1, .int (nI x))]) hx hb dX1_pass_31 rfl hl (by decide) rfl (fun ls hl => ?_)
    have L32 : ∀ (fu i32 : Nat), x + 1 ≤ i32 + fu → i32 ≤ x → ∀ (H : Heap) (locs : List Loc) (ls : Array Slot) (v2 : Int32) (znw : Nat → Int32), v2 = nI (x - i32) → znw = bk_hours σ n nw i32 → bP D ad (ad 100) σ znw n H → va_S A s.heap H locs → lv_has ls 3 [(2, .int v2), (0, .ref (ad 0)), (1, .int (nI x))] → W p l e (xk_R 8 182) s m args below meth c H locs 0 0 Q (F0 m 32 ls []) := by
      intro fu
      induction fu with
      | zero => intro i32 h32a h32b; exact absurd h32a (by omega)
      | succ fu ih32 =>
        intro i32 h32a h32b  H locs ls v2 znw ev2 eznw hP hS hl
        subst ev2
        subst eznw
        refine lv_iload_n hx hb dX1_pass_32 rfl (lv_at hl 0 rfl) ?_
        refine lv_if_le (tgt := 49) hx hb dX1_pass_33 (by decide) (fun c_3 => ?_) (fun c_3 => ?_)
        · skip
          obtain rfl : x = i32 := (mk_down0 (by omega) (by omega) c_3).symm
          refine lv_aload_n hx hb dX1_pass_49 rfl (lv_at hl 1 rfl) ?_
          refine xk_getO hAt hK (b0 hP) (C := RX1) (T := TX1) (N := 6) rfl 5 (by decide) (v := .ref (ad 100)) rfl (hts _ q142) (fun _ h => h) in_X1 dX1_pass_50 ?_
          refine xk_getN hAt hK (b100 hP) (C := RX2) (T := TX2) (N := 7) rfl 5 (by decide) (v := .int ((bk_hours σ n nw x) 154)) rfl q118 (fun _ h => h) in_X2 dX1_pass_53 ?_
          exact hR _ _ _ _ _ dX1_pass_56 (⟨rfl, hP⟩) hS
        have hlt : i32 < x := mk_down2 (by omega) c_3
        refine lv_aload_n hx hb dX1_pass_36 rfl (lv_at hl 1 rfl) ?_
        refine xk_getO hAt hK (b0 hP) (C := RX1) (T := TX1) (N := 6) rfl 5 (by decide) (v := .ref (ad 100)) rfl (hts _ q142) (fun _ h => h) in_X1 dX1_pass_37 ?_
        refine xk_cvV hAt hK (P := bP D ad (ad 100) σ (bk_hours σ n nw i32) n) hP hA hS (xk_recv (q := (RX2, TX2, 7)) hK (b100 hP) rfl) (As := []) (rest := []) (b_passHourI l D A ad (ad 100) σ (bk_hours σ n nw i32) n hJ hn0 ) (cwV 0 hts (lw_V q666 q667 q668 q41 q669) rfl rfl rfl cdX2_passHour ⟨Nat.le_of_ble_eq_true rfl, Nat.le_of_ble_eq_true rfl⟩) rfl hl.1 rfl (Nat.le_of_ble_eq_true rfl) dX1_pass_40 ⟨Nat.le_refl _, Nat.le_refl _⟩ (fun H locs hP hS => ?_)
        refine lv_iinc (v := (nI (x - i32) + (-1))) (lv' := [(2, .int (nI (x - i32) + (-1))), (0, .ref (ad 0)), (1, .int (nI x))]) hx hb dX1_pass_43 hl (k := 0) rfl rfl (by decide) rfl (fun ls hl => ?_)
        refine lv_goto (tgt := 32) hx hb dX1_pass_46 (by decide) ?_
        exact ih32 (i32 + 1) (by omega) (by omega)  _ _ _ (nI (x - i32) + (-1)) (bk_hour σ n (bk_hours σ n nw i32)) (mk_down1 hlt) (rfl) hP hS (lv_sub hl [0, 1, 2] rfl)
    exact L32 (x + 1) 0 (by omega) (by omega)  _ _ _ (nI x) nw (rfl) (rfl) hP hS (lv_sub hl [0, 1, 2] rfl)
  refine lv_icmp_gt (tgt := 26) hx hb dX1_pass_19 (by decide) (fun c_1 => ?_) (fun c_1 => ?_)
  · skip
    refine lv_iconst (v := 0) hx hb dX1_pass_26 (by decide) ?_
    exact J27_2 _ _ _ 0 ((if_neg (fun h => h c_1)).symm) hP hS (lv_sub hl [0, 1] rfl)
  refine lv_iconst (v := 1) hx hb dX1_pass_22 (by decide) ?_
  refine lv_goto (tgt := 27) hx hb dX1_pass_23 (by decide) ?_
  exact J27_2 _ _ _ 1 ((if_pos c_1).symm) hP hS (lv_sub hl [0, 1] rfl)
set_option maxHeartbeats 4000000 in
theorem b_sum (l : Launch) (D : xk_G) (A : Nat → Prop) (ad : Nat → Nat) (σ : Nat → Nat → Int32) (nw : Nat → Int32) (n : Nat → Nat) (h3m : n 3 ≤ 40) (h4m : n 4 ≤ 8) (x : Nat) (hx5 : x ≤ 5) : Met l yX1_sum (ws_ yX1_sum cX1_sum 2 (some .int)) (xk_R 5 109) (xk_Pre D A (bP D ad (ad 100) σ nw n) [.ref (ad 0), .int (nI x)]) (xk_Pi A (fun r H => r = bk_sum nw n x ∧ bP D ad (ad 100) σ nw n H)) 0 0 A := by
  refine xk_startI (by decide +kernel) (Nat.le_of_ble_eq_true rfl) ?_
  intro p e s m args below meth c Q hAt hin hK hA hP hR ls hl
  obtain ⟨hx, hb, hml, hown, hts⟩ := id hAt
  have hl : lv_has ls 2 [(0, .ref (ad 0)), (1, .int (nI x))] := hl
  have hS : va_S A s.heap s.heap [] := va_S.rf
  refine lv_iload_n hx hb dX1_sum_0 rfl (lv_at hl 1 rfl) ?_
  refine lv_iconst (v := 0) hx hb dX1_sum_1 (by decide) ?_
  refine lv_iconst (v := 5) hx hb dX1_sum_2 (by decide) ?_
  refine xk_cvS hAt hK (P := bP D ad (ad 100) σ nw n) hP hA hS (As := [.int (nI x), .int 0, .int 5]) (rest := []) (b_check l D A (bP D ad (ad 100) σ nw n) (nI x) 0 5 (mk_inP (k := 5) (by omega) (by omega))) (va_cwS 3 hts (lw_S q167 q168 q37 q169) rfl rfl rfl cdX1_check ⟨Nat.le_of_ble_eq_true rfl, Nat.le_of_ble_eq_true rfl⟩) rfl hl.1 rfl (Nat.le_of_ble_eq_true rfl) dX1_sum_3 ⟨Nat.le_refl _, Nat.le_refl _⟩ (fun H locs hP hS => ?_)
  refine lv_aload_n hx hb dX1_sum_6 rfl (lv_at hl 0 rfl) ?_
  refine xk_getO hAt hK (b0 hP) (C := RX1) (T := TX1) (N := 6) rfl 5 (by decide) (v := .ref (ad 100)) rfl (hts _ q142) (fun _ h => h) in_X1 dX1_sum_7 ?_
  refine lv_iload_n hx hb dX1_sum_10 rfl (lv_at hl 1 rfl) ?_
  refine xk_ciV hAt hK (P := bP D ad (ad 100) σ nw n) hP hA hS (xk_recv (q := (RX2, TX2, 7)) hK (b100 hP) rfl) (As := [.int (nI x)]) (rest := []) (b_sumI l D A ad (ad 100) σ nw n (by assumption) (by assumption) x (by omega)) (cwV 1 hts (lw_V q769 q770 q771 q41 q772) rfl rfl rfl cdX2_sum ⟨Nat.le_of_ble_eq_true rfl, Nat.le_of_ble_eq_true rfl⟩) rfl hl.1 rfl (Nat.le_of_ble_eq_true rfl) dX1_sum_11 ⟨Nat.le_refl _, Nat.le_refl _⟩ (fun r H locs hq hS => ?_)
  obtain ⟨rfl, hP⟩ := hq
  exact hR _ _ _ _ _ dX1_sum_14 (⟨rfl, hP⟩) hS
