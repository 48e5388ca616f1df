/-! THE JDK's small methods; a list's size and get; intValue (printed by gen/model.py) -/
set_option maxRecDepth 100000
theorem cdJ17_checkIndex : yJ17_checkIndex.cls ≠ "java/lang/invoke/MethodHandle" ∧ yJ17_checkIndex.cls ≠ "java/lang/invoke/VarHandle" ∧ (parseMethodDescriptor yJ17_checkIndex.desc).map (fun d => d.parameters.length) = some 3 := by decide +kernel
theorem cdJ16_checkIndex : yJ16_checkIndex.cls ≠ "java/lang/invoke/MethodHandle" ∧ yJ16_checkIndex.cls ≠ "java/lang/invoke/VarHandle" ∧ (parseMethodDescriptor yJ16_checkIndex.desc).map (fun d => d.parameters.length) = some 2 := by decide +kernel
theorem cdJ2_elementData : yJ2_elementData.cls = RJ2 ∧ yJ2_elementData.cls ≠ "java/lang/invoke/MethodHandle" ∧ yJ2_elementData.cls ≠ "java/lang/invoke/VarHandle" ∧ (parseMethodDescriptor yJ2_elementData.desc).map (fun d => d.parameters.length) = some 1 := by decide +kernel
set_option maxHeartbeats 4000000 in
theorem j_pci (l : Launch) (D : xk_G) (A : Nat → Prop) (P : Heap → Prop) (k n : Nat) (hk : k < n) (hn : n < 2147483648) : Met l yJ17_checkIndex (ws_ yJ17_checkIndex cJ17_checkIndex 3 (some .int)) (xk_R 0 0) (xk_Pre D A P [.int (nI k), .int (nI n), .null]) (xk_Pi A (fun r H => r = nI k ∧ P H)) 0 0 A := by
  refine xk_startI (by decide +kernel) (Nat.le_of_ble_eq_true rfl) ?_
  intro p e s m args below meth c Q hAt hin hK hA hP hR ls hl
  obtain ⟨hx, hb, hml, hown, hts⟩ := id hAt
  have hl : lv_has ls 3 [(0, .int (nI k)), (1, .int (nI n)), (2, .null)] := hl
  have hS : va_S A s.heap s.heap [] := va_S.rf
  refine lv_iload_n hx hb dJ17_checkIndex_0 rfl (lv_at hl 0 rfl) ?_
  refine lv_if_lt (tgt := 9) hx hb dJ17_checkIndex_1 (by decide) (fun c_1 => ?_) (fun c_1 => ?_)
  · skip
    first | omega | exact absurd c_1 (nI_pos (by omega))
  refine lv_iload_n hx hb dJ17_checkIndex_4 rfl (lv_at hl 0 rfl) ?_
  refine lv_iload_n hx hb dJ17_checkIndex_5 rfl (lv_at hl 1 rfl) ?_
  refine mk_lt (tgt := 16) (a := k) (b := n) hx hb (by omega) (by omega) dJ17_checkIndex_6 (by decide) (fun c_2 => ?_) (fun c_2 => ?_)
  · skip
    refine lv_iload_n hx hb dJ17_checkIndex_16 rfl (lv_at hl 0 rfl) ?_
    exact hR _ _ _ _ _ dJ17_checkIndex_17 (⟨rfl, hP⟩) hS
  first | omega | exact absurd c_2 (nI_pos (by omega))
set_option maxHeartbeats 4000000 in
theorem j_ci (l : Launch) (D : xk_G) (A : Nat → Prop) (P : Heap → Prop) (k n : Nat) (hk : k < n) (hn : n < 2147483648) : Met l yJ16_checkIndex (ws_ yJ16_checkIndex cJ16_checkIndex 2 (some .int)) (xk_R 1 22) (xk_Pre D A P [.int (nI k), .int (nI n)]) (xk_Pi A (fun r H => r = nI k ∧ P H)) 0 0 A := by
  refine xk_startI (by decide +kernel) (Nat.le_of_ble_eq_true rfl) ?_
  intro p e s m args below meth c Q hAt hin hK hA hP hR ls hl
  obtain ⟨hx, hb, hml, hown, hts⟩ := id hAt
  have hl : lv_has ls 2 [(0, .int (nI k)), (1, .int (nI n))] := hl
  have hS : va_S A s.heap s.heap [] := va_S.rf
  refine lv_iload_n hx hb dJ16_checkIndex_0 rfl (lv_at hl 0 rfl) ?_
  refine lv_iload_n hx hb dJ16_checkIndex_1 rfl (lv_at hl 1 rfl) ?_
  refine lv_null hx hb dJ16_checkIndex_2 ?_
  refine mk_ciS hAt hK (P := P) hP hA hS (As := [.int (nI k), .int (nI n), .null]) (rest := []) (j_pci l D A (P) k n (by omega) (by omega)) (va_cwS 3 hts (lw_S q261 q262 q59 q263) rfl rfl rfl cdJ17_checkIndex ⟨Nat.le_of_ble_eq_true rfl, Nat.le_of_ble_eq_true rfl⟩) rfl hl.1 rfl (Nat.le_of_ble_eq_true rfl) dJ16_checkIndex_3 ⟨Nat.le_refl _, Nat.le_refl _⟩ (fun r H locs hq hS => ?_)
  obtain ⟨rfl, hP⟩ := hq
  exact hR _ _ _ _ _ dJ16_checkIndex_6 (⟨rfl, hP⟩) hS
theorem al_size (l : Launch) (D : xk_G) (A : Nat → Prop) (P : Heap → Prop) (q d n : Nat) (g : Nat → Nat) (hL : ∀ H, P H → bL D q d n g H) : Met l yJ2_size (ws_ yJ2_size cJ2_size 1 (some .int)) (xk_R 0 0) (xk_Pre D A P [.ref q]) (xk_Pi A (fun r H => r = nI n ∧ P H)) 0 0 A := by
  refine xk_startI (by decide +kernel) (Nat.le_of_ble_eq_true rfl) ?_
  intro p e s m args below meth c Q hAt hin hK hA hP hR ls hl
  obtain ⟨hx, hb, hml, hown, hts⟩ := id hAt
  have hS : va_S A s.heap s.heap [] := va_S.rf
  have hl : lv_has ls 1 [(0, .ref q)] := hl
  obtain ⟨mc, aa, ho, hc⟩ := hL _ hP
  refine lv_aload_n hx hb dJ2_size_0 rfl (lv_at hl 0 rfl) ?_
  refine xk_getO hAt hK ho (C := RJ2) (T := TJ2) (N := 3) rfl 2 (by decide) (v := .int (nI n)) rfl (hts _ q89) (fun _ h => h) in_J2 dJ2_size_1 ?_
  exact hR _ _ _ _ _ dJ2_size_4 ⟨rfl, hP⟩ hS
theorem al_elem (l : Launch) (D : xk_G) (A : Nat → Prop) (P : Heap → Prop) (q d n : Nat) (g : Nat → Nat) (hL : ∀ H, P H → bL D q d n g H) (k : Nat) (hk : k < n) : Met l yJ2_elementData (ws_ yJ2_elementData cJ2_elementData 2 (some (.object "java/lang/Object"))) (xk_R 0 0) (xk_Pre D A P [.ref q, .int (nI k)]) (xk_Pr A (fun a H => a = g k ∧ P H)) 0 0 A := by
  refine xk_startR (by decide +kernel) (Nat.le_of_ble_eq_true rfl) (Or.inl ⟨_, rfl⟩) ?_
  intro p e s m args below meth c Q hAt hin hK hA hP hR ls hl
  obtain ⟨hx, hb, hml, hown, hts⟩ := id hAt
  have hS : va_S A s.heap s.heap [] := va_S.rf
  have hl : lv_has ls 2 [(0, .ref q), (1, .int (nI k))] := hl
  obtain ⟨mc, aa, ho, hc⟩ := hL _ hP
  obtain ⟨-, rfl, cap, f, h1, h2, h3, hq, hf⟩ := hc.resolve_left (fun z => by omega)
  refine lv_aload_n hx hb dJ2_elementData_0 rfl (lv_at hl 0 rfl) ?_
  refine xk_getO hAt hK ho (C := RJ2) (T := TJ2) (N := 3) rfl 1 (by decide) (v := .ref aa) rfl (hts _ q88) (fun _ h => h) in_J2 dJ2_elementData_1 ?_
  refine lv_iload_n hx hb dJ2_elementData_4 rfl (lv_at hl 1 rfl) ?_
  refine xk_aaldQ hAt hK hq k (g k) (by omega) (by omega) (hf k hk) dJ2_elementData_5 ?_
  exact hR _ _ _ _ _ dJ2_elementData_6 ⟨rfl, hP⟩ hS
theorem al_get (l : Launch) (D : xk_G) (A : Nat → Prop) (P : Heap → Prop) (q d n : Nat) (g : Nat → Nat) (hL : ∀ H, P H → bL D q d n g H) (k : Nat) (hk : k < n) (hn : n < 2147483648) : Met l yJ2_get (ws_ yJ2_get cJ2_get 2 (some (.object "java/lang/Object"))) (xk_R 2 43) (xk_Pre D A P [.ref q, .int (nI k)]) (xk_Pr A (fun a H => a = g k ∧ P H)) 0 0 A := by
  refine xk_startR (by decide +kernel) (Nat.le_of_ble_eq_true rfl) (Or.inl ⟨_, rfl⟩) ?_
  intro p e s m args below meth c Q hAt hin hK hA hP hR ls hl
  obtain ⟨hx, hb, hml, hown, hts⟩ := id hAt
  have hS : va_S A s.heap s.heap [] := va_S.rf
  have hl : lv_has ls 2 [(0, .ref q), (1, .int (nI k))] := hl
  obtain ⟨mc, aa, ho, hc⟩ := hL _ hP
  refine lv_iload_n hx hb dJ2_get_0 rfl (lv_at hl 1 rfl) ?_
  refine lv_aload_n hx hb dJ2_get_1 rfl (lv_at hl 0 rfl) ?_
  refine xk_getO hAt hK ho (C := RJ2) (T := TJ2) (N := 3) rfl 2 (by decide) (v := .int (nI n)) rfl (hts _ q89) (fun _ h => h) in_J2 dJ2_get_2 ?_
  refine mk_ciS hAt hK (P := P) hP hA hS (As := [.int (nI k), .int (nI n)]) (rest := []) (j_ci l D A P k n hk hn) (va_cwS 2 hts (lw_S q258 q259 q58 q260) rfl rfl rfl cdJ16_checkIndex ⟨Nat.le_of_ble_eq_true rfl, Nat.le_of_ble_eq_true rfl⟩) rfl hl.1 rfl (Nat.le_of_ble_eq_true rfl) dJ2_get_5 ⟨Nat.le_refl _, Nat.le_refl _⟩ (fun r H locs hq hS => ?_)
  obtain ⟨rfl, hP⟩ := hq
  refine lv_pop hx hb dJ2_get_8 rfl ?_
  refine lv_aload_n hx hb dJ2_get_9 rfl (lv_at hl 0 rfl) ?_
  refine lv_iload_n hx hb dJ2_get_10 rfl (lv_at hl 1 rfl) ?_
  refine xk_crV hAt hK hP hA hS (xk_recvL hK (hL _ hP)) (As := [.int (nI k)]) (rest := []) (al_elem l D A P q d n g hL k hk) (cwV 1 hts (lw_V q264 q265 q266 q40 q267) rfl rfl rfl cdJ2_elementData ⟨Nat.le_of_ble_eq_true rfl, Nat.le_of_ble_eq_true rfl⟩) rfl hl.1 rfl (Nat.le_of_ble_eq_true rfl) dJ2_get_11 ⟨Nat.le_refl _, Nat.le_refl _⟩ (fun r H locs hq hS => ?_)
  obtain ⟨rfl, hP⟩ := hq
  exact hR _ _ _ _ _ dJ2_get_14 ⟨rfl, hP⟩ hS
theorem in_val (l : Launch) (D : xk_G) (A : Nat → Prop) (P : Heap → Prop) (a : Nat) (v : Int32) (hB : ∀ H, P H → bX D a v H) : Met l yJ9_intValue (ws_ yJ9_intValue cJ9_intValue 1 (some .int)) (xk_R 0 0) (xk_Pre D A P [.ref a]) (xk_Pi A (fun r H => r = v ∧ P H)) 0 0 A := by
  refine xk_startI (by decide +kernel) (Nat.le_of_ble_eq_true rfl) ?_
  intro p e s m args below meth c Q hAt hin hK hA hP hR ls hl
  obtain ⟨hx, hb, hml, hown, hts⟩ := id hAt
  have hS : va_S A s.heap s.heap [] := va_S.rf
  have hl : lv_has ls 1 [(0, .ref a)] := hl
  refine lv_aload_n hx hb dJ9_intValue_0 rfl (lv_at hl 0 rfl) ?_
  refine xk_getX hAt hK (hB _ hP) (hts _ q374) dJ9_intValue_1 ?_
  exact hR _ _ _ _ _ dJ9_intValue_4 ⟨rfl, hP⟩ hS
