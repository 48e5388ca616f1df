/-! THE MODEL's public methods, walked (printed by gen/model.py) -/
set_option maxRecDepth 100000
theorem cdX3_table : yX3_table.cls = RX3 ∧ yX3_table.cls ≠ "java/lang/invoke/MethodHandle" ∧ yX3_table.cls ≠ "java/lang/invoke/VarHandle" ∧ (parseMethodDescriptor yX3_table.desc).map (fun d => d.parameters.length) = some 3 := by decide +kernel
theorem cdX3_fit : yX3_fit.cls = RX3 ∧ yX3_fit.cls ≠ "java/lang/invoke/MethodHandle" ∧ yX3_fit.cls ≠ "java/lang/invoke/VarHandle" ∧ (parseMethodDescriptor yX3_fit.desc).map (fun d => d.parameters.length) = some 2 := by decide +kernel
theorem cdX3_mark : yX3_mark.cls = RX3 ∧ yX3_mark.cls ≠ "java/lang/invoke/MethodHandle" ∧ yX3_mark.cls ≠ "java/lang/invoke/VarHandle" ∧ (parseMethodDescriptor yX3_mark.desc).map (fun d => d.parameters.length) = some 2 := by decide +kernel
theorem cdX3_own : yX3_own.cls = RX3 ∧ yX3_own.cls ≠ "java/lang/invoke/MethodHandle" ∧ yX3_own.cls ≠ "java/lang/invoke/VarHandle" ∧ (parseMethodDescriptor yX3_own.desc).map (fun d => d.parameters.length) = some 1 := by decide +kernel
theorem cdX3_harm : yX3_harm.cls = RX3 ∧ yX3_harm.cls ≠ "java/lang/invoke/MethodHandle" ∧ yX3_harm.cls ≠ "java/lang/invoke/VarHandle" ∧ (parseMethodDescriptor yX3_harm.desc).map (fun d => d.parameters.length) = some 1 := by decide +kernel
theorem cdX3_nearness : yX3_nearness.cls = RX3 ∧ yX3_nearness.cls ≠ "java/lang/invoke/MethodHandle" ∧ yX3_nearness.cls ≠ "java/lang/invoke/VarHandle" ∧ (parseMethodDescriptor yX3_nearness.desc).map (fun d => d.parameters.length) = some 1 := by decide +kernel
theorem cdX3_segment : yX3_segment.cls = RX3 ∧ yX3_segment.cls ≠ "java/lang/invoke/MethodHandle" ∧ yX3_segment.cls ≠ "java/lang/invoke/VarHandle" ∧ (parseMethodDescriptor yX3_segment.desc).map (fun d => d.parameters.length) = some 2 := by decide +kernel
theorem cdX3_joint : yX3_joint.cls = RX3 ∧ yX3_joint.cls ≠ "java/lang/invoke/MethodHandle" ∧ yX3_joint.cls ≠ "java/lang/invoke/VarHandle" ∧ (parseMethodDescriptor yX3_joint.desc).map (fun d => d.parameters.length) = some 1 := by decide +kernel
theorem cdX3_adds : yX3_adds.cls = RX3 ∧ yX3_adds.cls ≠ "java/lang/invoke/MethodHandle" ∧ yX3_adds.cls ≠ "java/lang/invoke/VarHandle" ∧ (parseMethodDescriptor yX3_adds.desc).map (fun d => d.parameters.length) = some 5 := by decide +kernel
theorem cdX3_draw : yX3_draw.cls = RX3 ∧ yX3_draw.cls ≠ "java/lang/invoke/MethodHandle" ∧ yX3_draw.cls ≠ "java/lang/invoke/VarHandle" ∧ (parseMethodDescriptor yX3_draw.desc).map (fun d => d.parameters.length) = some 4 := by decide +kernel
theorem cdX3_slip : yX3_slip.cls = RX3 ∧ yX3_slip.cls ≠ "java/lang/invoke/MethodHandle" ∧ yX3_slip.cls ≠ "java/lang/invoke/VarHandle" ∧ (parseMethodDescriptor yX3_slip.desc).map (fun d => d.parameters.length) = some 3 := by decide +kernel
theorem cdX3_cellIs : yX3_cellIs.cls = RX3 ∧ yX3_cellIs.cls ≠ "java/lang/invoke/MethodHandle" ∧ yX3_cellIs.cls ≠ "java/lang/invoke/VarHandle" ∧ (parseMethodDescriptor yX3_cellIs.desc).map (fun d => d.parameters.length) = some 2 := by decide +kernel
theorem cdX3_invade : yX3_invade.cls = RX3 ∧ yX3_invade.cls ≠ "java/lang/invoke/MethodHandle" ∧ yX3_invade.cls ≠ "java/lang/invoke/VarHandle" ∧ (parseMethodDescriptor yX3_invade.desc).map (fun d => d.parameters.length) = some 3 := by decide +kernel
theorem cdX3_change : yX3_change.cls = RX3 ∧ yX3_change.cls ≠ "java/lang/invoke/MethodHandle" ∧ yX3_change.cls ≠ "java/lang/invoke/VarHandle" ∧ (parseMethodDescriptor yX3_change.desc).map (fun d => d.parameters.length) = some 2 := by decide +kernel
theorem cdX3_invaderIs : yX3_invaderIs.cls = RX3 ∧ yX3_invaderIs.cls ≠ "java/lang/invoke/MethodHandle" ∧ yX3_invaderIs.cls ≠ "java/lang/invoke/VarHandle" ∧ (parseMethodDescriptor yX3_invaderIs.desc).map (fun d => d.parameters.length) = some 2 := by decide +kernel
theorem cdX3_why : yX3_why.cls = RX3 ∧ yX3_why.cls ≠ "java/lang/invoke/MethodHandle" ∧ yX3_why.cls ≠ "java/lang/invoke/VarHandle" ∧ (parseMethodDescriptor yX3_why.desc).map (fun d => d.parameters.length) = some 1 := by decide +kernel
theorem cdX3_sum : yX3_sum.cls = RX3 ∧ yX3_sum.cls ≠ "java/lang/invoke/MethodHandle" ∧ yX3_sum.cls ≠ "java/lang/invoke/VarHandle" ∧ (parseMethodDescriptor yX3_sum.desc).map (fun d => d.parameters.length) = some 1 := by decide +kernel
set_option maxHeartbeats 4000000 in
theorem m_table (l : Launch) (D : xk_G) (A : Nat → Prop) (ad : Nat → Nat) (σ : Nat → Nat → Int32) (nw az ir : Nat → Int32) (n : Nat → Nat) (th : Int32) (hJ : mk_ok A ad) (a b v : Int32) : Met l yX3_table (ws_ yX3_table cX3_table 5 (some .int)) (xk_R 2 42) (xk_Pre D A (mP D ad σ nw az ir n th) [.ref (ad 0), .int a, .int b, .int v]) (xk_Pi A (fun r H => if mk_tTable a b v = 0 then (r = σ 0 (4 * a.toNatClampNeg + b.toNatClampNeg) ∧ mP D ad (va_up σ 0 (upd (σ 0) (4 * a.toNatClampNeg + b.toNatClampNeg) v)) nw az ir n (mk_tTable a b v) H) else mP D ad σ nw az ir n (mk_tTable a b v) H)) 0 0 A := by
  refine xk_startI (by decide +kernel) (Nat.le_of_ble_eq_true rfl) ?_
  intro p e s m args below meth c Q hAt hin hK hA hP hR ls hl
  obtain ⟨hx, hb, hml, hown, hts⟩ := id hAt
  have hl : lv_has ls 5 [(0, .ref (ad 0)), (1, .int a), (2, .int b), (3, .int v)] := hl
  have hS : va_S A s.heap s.heap [] := va_S.rf
  refine lv_aload_n hx hb dX3_table_0 rfl (lv_at hl 0 rfl) ?_
  refine lv_iload_n hx hb dX3_table_1 rfl (lv_at hl 1 rfl) ?_
  refine mk_ciS hAt hK (P := mP D ad σ nw az ir n th) hP hA hS (As := [.int a]) (rest := [.ref (ad 0)]) (m_isLetter l D A (mP D ad σ nw az ir n th) a) (va_cwS 1 hts (lw_S q860 q861 q42 q862) rfl rfl rfl cdX3_isLetter ⟨Nat.le_of_ble_eq_true rfl, Nat.le_of_ble_eq_true rfl⟩) rfl hl.1 rfl (Nat.le_of_ble_eq_true rfl) dX3_table_2 ⟨Nat.le_refl _, Nat.le_refl _⟩ (fun r H locs hq hS => ?_)
  obtain ⟨rfl, hP⟩ := hq
  have J30_2 : ∀ (H : Heap) (locs : List Loc) (ls : Array Slot) (t0 : Int32), t0 = xk_b (¬ (mk_in a 0 3) ∨ (¬ (mk_in b 0 3) ∨ ¬ (mk_in v 0 9))) → mP D ad σ nw az ir n th H → va_S A s.heap H locs → lv_has ls 5 [(0, .ref (ad 0)), (1, .int a), (2, .int b), (3, .int v)] → W p l e (xk_R 2 42) s m args below meth c H locs 0 0 Q (F0 m 30 ls [.int t0, .ref (ad 0)]) := by
    intro H locs ls t0 et0 hP hS hl
    subst et0
    refine mk_put hAt hK hJ hP hS 18 (by decide) (hts _ q808) rfl rfl (ty := .int) (by decide +kernel) rfl rfl (ad' := ad) (n' := n) (th' := xk_b (¬ (mk_in a 0 3) ∨ (¬ (mk_in b 0 3) ∨ ¬ (mk_in v 0 9)))) rfl rfl dX3_table_30 (fun H locs hP hS => ?_)
    have hP : mP D ad σ nw az ir n (xk_b (¬ (mk_in a 0 3) ∨ (¬ (mk_in b 0 3) ∨ ¬ (mk_in v 0 9)))) H := hP
    have hP : mP D ad σ nw az ir n (mk_tTable a b v) H := hP
    refine lv_aload_n hx hb dX3_table_33 rfl (lv_at hl 0 rfl) ?_
    refine mk_get hAt hK hP 18 (by decide) (v := .int (mk_tTable a b v)) rfl (hts _ q808) rfl dX3_table_34 ?_
    refine lv_if_le (tgt := 42) hx hb dX3_table_37 (by decide) (fun c_3 => ?_) (fun c_3 => ?_)
    · skip
      have h0 := t4_0 c_3 (mk_tTable_4 a b v)
      have hf := mk_tTable_f h0
      obtain ⟨ea, ea2, ea3⟩ := mk_inN (k := 3) (by omega) (by decide) hf.1
      obtain ⟨eb, eb2, eb3⟩ := mk_inN (k := 3) (by omega) (by decide) hf.2.1
      have hl : lv_has ls 5 [(0, .ref (ad 0)), (1, .int (nI a.toNatClampNeg)), (2, .int (nI b.toNatClampNeg)), (3, .int v)] := by rw [← ea, ← eb]; exact hl
      refine lv_aload_n hx hb dX3_table_42 rfl (lv_at hl 0 rfl) ?_
      refine mk_get hAt hK hP 0 (by decide) (v := .ref (ad 1)) rfl (hts _ q790) rfl dX3_table_43 ?_
      refine lv_iconst (v := 4) hx hb dX3_table_46 (by decide) ?_
      refine lv_iload_n hx hb dX3_table_47 rfl (lv_at hl 1 rfl) ?_
      refine lv_imul hx hb dX3_table_48 ?_
      refine xk_to (y := nI (4 * a.toNatClampNeg)) (pk_mul 4 a.toNatClampNeg) ?_
      refine lv_iload_n hx hb dX3_table_49 rfl (lv_at hl 2 rfl) ?_
      refine lv_iadd hx hb dX3_table_50 ?_
      refine xk_to (y := nI (4 * a.toNatClampNeg + b.toNatClampNeg)) (nI_add (4 * a.toNatClampNeg) b.toNatClampNeg) ?_
      refine mk_iald hAt hK hP 1 (f := σ 0) rfl (4 * a.toNatClampNeg + b.toNatClampNeg) (by omega) (by decide) dX3_table_51 ?_
      refine lv_istore (lv' := [(4, .int (σ 0 (4 * a.toNatClampNeg + b.toNatClampNeg))), (0, .ref (ad 0)), (1, .int (nI a.toNatClampNeg)), (2, .int (nI b.toNatClampNeg)), (3, .int v)]) hx hb dX3_table_52 hl (by decide) rfl (fun ls hl => ?_)
      refine lv_aload_n hx hb dX3_table_54 rfl (lv_at hl 1 rfl) ?_
      refine mk_get hAt hK hP 0 (by decide) (v := .ref (ad 1)) rfl (hts _ q790) rfl dX3_table_55 ?_
      refine lv_iconst (v := 4) hx hb dX3_table_58 (by decide) ?_
      refine lv_iload_n hx hb dX3_table_59 rfl (lv_at hl 2 rfl) ?_
      refine lv_imul hx hb dX3_table_60 ?_
      refine xk_to (y := nI (4 * a.toNatClampNeg)) (pk_mul 4 a.toNatClampNeg) ?_
      refine lv_iload_n hx hb dX3_table_61 rfl (lv_at hl 3 rfl) ?_
      refine lv_iadd hx hb dX3_table_62 ?_
      refine xk_to (y := nI (4 * a.toNatClampNeg + b.toNatClampNeg)) (nI_add (4 * a.toNatClampNeg) b.toNatClampNeg) ?_
      refine lv_iload_n hx hb dX3_table_63 rfl (lv_at hl 4 rfl) ?_
      refine mk_iast hAt hK hJ hP hS 1 (f := σ 0) rfl (4 * a.toNatClampNeg + b.toNatClampNeg) (by omega) (by decide) (σ' := va_up σ 0 (upd (σ 0) (4 * a.toNatClampNeg + b.toNatClampNeg) v)) (nw' := nw) (az' := az) rfl dX3_table_64 (fun H locs hP hS => ?_)
      refine lv_iload hx hb dX3_table_65 (lv_at hl 0 rfl) ?_
      exact hR _ _ _ _ _ dX3_table_67 (xk_ifp h0 ⟨rfl, hP⟩) hS
    refine lv_iconst (v := 0) hx hb dX3_table_40 (by decide) ?_
    exact hR _ _ _ _ _ dX3_table_41 (xk_ifn (t4_1 c_3) hP) hS
  refine xk_ifeq (tgt := 29) hx hb dX3_table_5 (by decide) (fun c_1 => ?_) (fun c_1 => ?_)
  · skip
    refine lv_iconst (v := 1) hx hb dX3_table_29 (by decide) ?_
    exact J30_2 _ _ _ 1 ((if_pos (Or.inl c_1)).symm) hP hS (lv_sub hl [0, 1, 2, 3] rfl)
  refine lv_iload_n hx hb dX3_table_8 rfl (lv_at hl 2 rfl) ?_
  refine mk_ciS hAt hK (P := mP D ad σ nw az ir n th) hP hA hS (As := [.int b]) (rest := [.ref (ad 0)]) (m_isLetter l D A (mP D ad σ nw az ir n th) b) (va_cwS 1 hts (lw_S q860 q861 q42 q862) rfl rfl rfl cdX3_isLetter ⟨Nat.le_of_ble_eq_true rfl, Nat.le_of_ble_eq_true rfl⟩) rfl hl.1 rfl (Nat.le_of_ble_eq_true rfl) dX3_table_9 ⟨Nat.le_refl _, Nat.le_refl _⟩ (fun r H locs hq hS => ?_)
  obtain ⟨rfl, hP⟩ := hq
  refine xk_ifeq (tgt := 29) hx hb dX3_table_12 (by decide) (fun c_4 => ?_) (fun c_4 => ?_)
  · skip
    refine lv_iconst (v := 1) hx hb dX3_table_29 (by decide) ?_
    exact J30_2 _ _ _ 1 ((if_pos (Or.inr (Or.inl c_4))).symm) hP hS (lv_sub hl [0, 1, 2, 3] rfl)
  refine lv_iload_n hx hb dX3_table_15 rfl (lv_at hl 3 rfl) ?_
  refine lv_iconst (v := 0) hx hb dX3_table_16 (by decide) ?_
  refine lv_bipush (v := 9) hx hb dX3_table_17 (by decide) ?_
  refine mk_ciS hAt hK (P := mP D ad σ nw az ir n th) hP hA hS (As := [.int v, .int 0, .int 9]) (rest := [.ref (ad 0)]) (m_in l D A (mP D ad σ nw az ir n th) v 0 9) (va_cwS 3 hts (lw_S q863 q864 q42 q865) rfl rfl rfl cdX3_in ⟨Nat.le_of_ble_eq_true rfl, Nat.le_of_ble_eq_true rfl⟩) rfl hl.1 rfl (Nat.le_of_ble_eq_true rfl) dX3_table_19 ⟨Nat.le_refl _, Nat.le_refl _⟩ (fun r H locs hq hS => ?_)
  obtain ⟨rfl, hP⟩ := hq
  refine xk_ifeq (tgt := 29) hx hb dX3_table_22 (by decide) (fun c_5 => ?_) (fun c_5 => ?_)
  · skip
    refine lv_iconst (v := 1) hx hb dX3_table_29 (by decide) ?_
    exact J30_2 _ _ _ 1 ((if_pos (Or.inr (Or.inr c_5))).symm) hP hS (lv_sub hl [0, 1, 2, 3] rfl)
  refine lv_iconst (v := 0) hx hb dX3_table_25 (by decide) ?_
  refine lv_goto (tgt := 30) hx hb dX3_table_26 (by decide) ?_
  exact J30_2 _ _ _ 0 ((if_neg (fun h => h.elim (fun z => z c_1) (fun z => (fun h => h.elim (fun z => z c_4) (fun z => (fun h => h c_5) z)) z))).symm) hP hS (lv_sub hl [0, 1, 2, 3] rfl)
set_option maxHeartbeats 4000000 in
theorem m_fit (l : Launch) (D : xk_G) (A : Nat → Prop) (ad : Nat → Nat) (σ : Nat → Nat → Int32) (nw az ir : Nat → Int32) (n : Nat → Nat) (th : Int32) (hJ : mk_ok A ad) (a b : Int32) : Met l yX3_fit (ws_ yX3_fit cX3_fit 3 (some .int)) (xk_R 2 45) (xk_Pre D A (mP D ad σ nw az ir n th) [.ref (ad 0), .int a, .int b]) (xk_Pi A (fun r H => r = (if mk_tFit a b = 0 then mk_fit (σ 0) a b else 0) ∧ mP D ad σ nw az ir n (mk_tFit a b) H)) 0 0 A := by
  refine xk_startI (by decide +kernel) (Nat.le_of_ble_eq_true rfl) ?_
  intro p e s m args below meth c Q hAt hin hK hA hP hR ls hl
  obtain ⟨hx, hb, hml, hown, hts⟩ := id hAt
  have hl : lv_has ls 3 [(0, .ref (ad 0)), (1, .int a), (2, .int b)] := hl
  have hS : va_S A s.heap s.heap [] := va_S.rf
  refine lv_aload_n hx hb dX3_fit_0 rfl (lv_at hl 0 rfl) ?_
  refine lv_iload_n hx hb dX3_fit_1 rfl (lv_at hl 1 rfl) ?_
  refine mk_ciS hAt hK (P := mP D ad σ nw az ir n th) hP hA hS (As := [.int a]) (rest := [.ref (ad 0)]) (m_isWord l D A (mP D ad σ nw az ir n th) a) (va_cwS 1 hts (lw_S q870 q871 q42 q872) rfl rfl rfl cdX3_isWord ⟨Nat.le_of_ble_eq_true rfl, Nat.le_of_ble_eq_true rfl⟩) rfl hl.1 rfl (Nat.le_of_ble_eq_true rfl) dX3_fit_2 ⟨Nat.le_refl _, Nat.le_refl _⟩ (fun r H locs hq hS => ?_)
  obtain ⟨rfl, hP⟩ := hq
  have J20_2 : ∀ (H : Heap) (locs : List Loc) (ls : Array Slot) (t0 : Int32), t0 = xk_b (¬ (mk_in a 0 255) ∨ ¬ (mk_in b 0 255)) → mP D ad σ nw az ir n th H → va_S A s.heap H locs → lv_has ls 3 [(0, .ref (ad 0)), (1, .int a), (2, .int b)] → W p l e (xk_R 2 45) s m args below meth c H locs 0 0 Q (F0 m 20 ls [.int t0, .ref (ad 0)]) := by
    intro H locs ls t0 et0 hP hS hl
    subst et0
    refine mk_put hAt hK hJ hP hS 18 (by decide) (hts _ q808) rfl rfl (ty := .int) (by decide +kernel) rfl rfl (ad' := ad) (n' := n) (th' := xk_b (¬ (mk_in a 0 255) ∨ ¬ (mk_in b 0 255))) rfl rfl dX3_fit_20 (fun H locs hP hS => ?_)
    have hP : mP D ad σ nw az ir n (xk_b (¬ (mk_in a 0 255) ∨ ¬ (mk_in b 0 255))) H := hP
    have hP : mP D ad σ nw az ir n (mk_tFit a b) H := hP
    refine lv_aload_n hx hb dX3_fit_23 rfl (lv_at hl 0 rfl) ?_
    refine mk_get hAt hK hP 18 (by decide) (v := .int (mk_tFit a b)) rfl (hts _ q808) rfl dX3_fit_24 ?_
    have J40_4 : ∀ (H : Heap) (locs : List Loc) (ls : Array Slot) (t0 : Int32), t0 = (if mk_tFit a b = 0 then mk_fit (σ 0) a b else 0) → mP D ad σ nw az ir n (mk_tFit a b) H → va_S A s.heap H locs → lv_has ls 3 [(0, .ref (ad 0)), (1, .int a), (2, .int b)] → W p l e (xk_R 2 45) s m args below meth c H locs 0 0 Q (F0 m 40 ls [.int t0]) := by
      intro H locs ls t0 et0 hP hS hl
      subst et0
      exact hR _ _ _ _ _ dX3_fit_40 (⟨rfl, hP⟩) hS
    refine lv_if_ne (tgt := 39) hx hb dX3_fit_27 (by decide) (fun c_3 => ?_) (fun c_3 => ?_)
    · skip
      refine lv_iconst (v := 0) hx hb dX3_fit_39 (by decide) ?_
      exact J40_4 _ _ _ 0 ((if_neg c_3).symm) hP hS (lv_sub hl [0, 1, 2] rfl)
    refine lv_aload_n hx hb dX3_fit_30 rfl (lv_at hl 0 rfl) ?_
    refine lv_iload_n hx hb dX3_fit_31 rfl (lv_at hl 1 rfl) ?_
    refine lv_iload_n hx hb dX3_fit_32 rfl (lv_at hl 2 rfl) ?_
    refine mk_ciV hAt hK hP hA hS (As := [.int a, .int b]) (rest := []) (m_fitOf l D A ad σ nw az ir n (mk_tFit a b) hJ a b) (cwV 2 hts (lw_V q873 q875 qs14 q42 q876) rfl rfl rfl cdX3_fitOf ⟨Nat.le_of_ble_eq_true rfl, Nat.le_of_ble_eq_true rfl⟩) rfl hl.1 rfl (Nat.le_of_ble_eq_true rfl) dX3_fit_33 ⟨Nat.le_refl _, Nat.le_refl _⟩ (fun r H locs hq hS => ?_)
    obtain ⟨rfl, hP⟩ := hq
    refine lv_goto (tgt := 40) hx hb dX3_fit_36 (by decide) ?_
    exact J40_4 _ _ _ (mk_fit (σ 0) a b) ((if_pos c_3).symm) hP hS (lv_sub hl [0, 1, 2] rfl)
  refine xk_ifeq (tgt := 19) hx hb dX3_fit_5 (by decide) (fun c_1 => ?_) (fun c_1 => ?_)
  · skip
    refine lv_iconst (v := 1) hx hb dX3_fit_19 (by decide) ?_
    exact J20_2 _ _ _ 1 ((if_pos (Or.inl c_1)).symm) hP hS (lv_sub hl [0, 1, 2] rfl)
  refine lv_iload_n hx hb dX3_fit_8 rfl (lv_at hl 2 rfl) ?_
  refine mk_ciS hAt hK (P := mP D ad σ nw az ir n th) hP hA hS (As := [.int b]) (rest := [.ref (ad 0)]) (m_isWord l D A (mP D ad σ nw az ir n th) b) (va_cwS 1 hts (lw_S q870 q871 q42 q872) rfl rfl rfl cdX3_isWord ⟨Nat.le_of_ble_eq_true rfl, Nat.le_of_ble_eq_true rfl⟩) rfl hl.1 rfl (Nat.le_of_ble_eq_true rfl) dX3_fit_9 ⟨Nat.le_refl _, Nat.le_refl _⟩ (fun r H locs hq hS => ?_)
  obtain ⟨rfl, hP⟩ := hq
  refine xk_ifeq (tgt := 19) hx hb dX3_fit_12 (by decide) (fun c_5 => ?_) (fun c_5 => ?_)
  · skip
    refine lv_iconst (v := 1) hx hb dX3_fit_19 (by decide) ?_
    exact J20_2 _ _ _ 1 ((if_pos (Or.inr c_5)).symm) hP hS (lv_sub hl [0, 1, 2] rfl)
  refine lv_iconst (v := 0) hx hb dX3_fit_15 (by decide) ?_
  refine lv_goto (tgt := 20) hx hb dX3_fit_16 (by decide) ?_
  exact J20_2 _ _ _ 0 ((if_neg (fun h => h.elim (fun z => z c_1) (fun z => (fun h => h c_5) z))).symm) hP hS (lv_sub hl [0, 1, 2] rfl)
set_option maxHeartbeats 4000000 in
theorem m_mark (l : Launch) (D : xk_G) (A : Nat → Prop) (ad : Nat → Nat) (σ : Nat → Nat → Int32) (nw az ir : Nat → Int32) (n : Nat → Nat) (th : Int32) (hJ : mk_ok A ad) (a v : Int32) : Met l yX3_mark (ws_ yX3_mark cX3_mark 5 (some .int)) (xk_R 1 22) (xk_Pre D A (mP D ad σ nw az ir n th) [.ref (ad 0), .int a, .int v]) (xk_Pi A (fun r H => if mk_tMark a v = 0 then (r = σ 1 a.toNatClampNeg ∧ mP D ad (va_up σ 1 (upd (σ 1) a.toNatClampNeg v)) nw az ir n (mk_tMark a v) H) else mP D ad σ nw az ir n (mk_tMark a v) H)) 0 0 A := by
  refine xk_startI (by decide +kernel) (Nat.le_of_ble_eq_true rfl) ?_
  intro p e s m args below meth c Q hAt hin hK hA hP hR ls hl
  obtain ⟨hx, hb, hml, hown, hts⟩ := id hAt
  have hl : lv_has ls 5 [(0, .ref (ad 0)), (1, .int a), (2, .int v)] := hl
  have hS : va_S A s.heap s.heap [] := va_S.rf
  refine lv_iload_n hx hb dX3_mark_0 rfl (lv_at hl 1 rfl) ?_
  refine lv_iconst (v := 0) hx hb dX3_mark_1 (by decide) ?_
  refine lv_iconst (v := 4) hx hb dX3_mark_2 (by decide) ?_
  refine mk_ciS hAt hK (P := mP D ad σ nw az ir n th) hP hA hS (As := [.int a, .int 0, .int 4]) (rest := []) (m_in l D A (mP D ad σ nw az ir n th) a 0 4) (va_cwS 3 hts (lw_S q863 q864 q42 q865) rfl rfl rfl cdX3_in ⟨Nat.le_of_ble_eq_true rfl, Nat.le_of_ble_eq_true rfl⟩) rfl hl.1 rfl (Nat.le_of_ble_eq_true rfl) dX3_mark_3 ⟨Nat.le_refl _, Nat.le_refl _⟩ (fun r H locs hq hS => ?_)
  obtain ⟨rfl, hP⟩ := hq
  have J54_2 : ∀ (H : Heap) (locs : List Loc) (ls : Array Slot) (t0 : Int32), t0 = xk_b (mk_in a 0 4 ∧ mk_in v (xk_b (a = 4)) (if 3 ≤ a then (if a = 3 then 9999 else 99) else 36)) → mP D ad σ nw az ir n th H → va_S A s.heap H locs → lv_has ls 5 [(0, .ref (ad 0)), (1, .int a), (2, .int v)] → W p l e (xk_R 1 22) s m args below meth c H locs 0 0 Q (F0 m 54 ls [.int t0]) := by
    intro H locs ls t0 et0 hP hS hl
    subst et0
    refine lv_istore_n (lv' := [(3, .int (xk_b (mk_in a 0 4 ∧ mk_in v (xk_b (a = 4)) (if 3 ≤ a then (if a = 3 then 9999 else 99) else 36)))), (0, .ref (ad 0)), (1, .int a), (2, .int v)]) hx hb dX3_mark_54 rfl hl (by decide) rfl (fun ls hl => ?_)
    have hl : lv_has ls 5 [(3, .int (xk_b (mk_isM a v))), (0, .ref (ad 0)), (1, .int a), (2, .int v)] := hl
    refine lv_aload_n hx hb dX3_mark_55 rfl (lv_at hl 1 rfl) ?_
    refine lv_iload_n hx hb dX3_mark_56 rfl (lv_at hl 0 rfl) ?_
    have J65_4 : ∀ (H : Heap) (locs : List Loc) (ls : Array Slot) (t0 : Int32), t0 = xk_b (¬ (mk_isM a v)) → mP D ad σ nw az ir n th H → va_S A s.heap H locs → lv_has ls 5 [(3, .int (xk_b (mk_isM a v))), (0, .ref (ad 0)), (1, .int a), (2, .int v)] → W p l e (xk_R 1 22) s m args below meth c H locs 0 0 Q (F0 m 65 ls [.int t0, .ref (ad 0)]) := by
      intro H locs ls t0 et0 hP hS hl
      subst et0
      refine mk_put hAt hK hJ hP hS 18 (by decide) (hts _ q808) rfl rfl (ty := .int) (by decide +kernel) rfl rfl (ad' := ad) (n' := n) (th' := xk_b (¬ (mk_isM a v))) rfl rfl dX3_mark_65 (fun H locs hP hS => ?_)
      have hP : mP D ad σ nw az ir n (xk_b (¬ (mk_isM a v))) H := hP
      have hP : mP D ad σ nw az ir n (mk_tMark a v) H := hP
      refine lv_aload_n hx hb dX3_mark_68 rfl (lv_at hl 1 rfl) ?_
      refine mk_get hAt hK hP 18 (by decide) (v := .int (mk_tMark a v)) rfl (hts _ q808) rfl dX3_mark_69 ?_
      refine lv_if_le (tgt := 77) hx hb dX3_mark_72 (by decide) (fun c_5 => ?_) (fun c_5 => ?_)
      · skip
        have h0 := t4_0 c_5 (mk_tMark_4 a v)
        have hf := mk_tMark_f h0
        obtain ⟨ea, ea2, ea3⟩ := mk_inN (k := 4) (by omega) (by decide) hf.1
        have hl : lv_has ls 5 [(3, .int (xk_b (mk_isM a v))), (0, .ref (ad 0)), (1, .int (nI a.toNatClampNeg)), (2, .int v)] := by rw [← ea]; exact hl
        refine lv_aload_n hx hb dX3_mark_77 rfl (lv_at hl 1 rfl) ?_
        refine mk_get hAt hK hP 1 (by decide) (v := .ref (ad 2)) rfl (hts _ q791) rfl dX3_mark_78 ?_
        refine lv_iload_n hx hb dX3_mark_81 rfl (lv_at hl 2 rfl) ?_
        refine mk_iald hAt hK hP 2 (f := σ 1) rfl a.toNatClampNeg (by omega) (by decide) dX3_mark_82 ?_
        refine lv_istore (lv' := [(4, .int (σ 1 a.toNatClampNeg)), (3, .int (xk_b (mk_isM a v))), (0, .ref (ad 0)), (1, .int (nI a.toNatClampNeg)), (2, .int v)]) hx hb dX3_mark_83 hl (by decide) rfl (fun ls hl => ?_)
        refine lv_aload_n hx hb dX3_mark_85 rfl (lv_at hl 2 rfl) ?_
        refine mk_get hAt hK hP 1 (by decide) (v := .ref (ad 2)) rfl (hts _ q791) rfl dX3_mark_86 ?_
        refine lv_iload_n hx hb dX3_mark_89 rfl (lv_at hl 3 rfl) ?_
        refine lv_iload_n hx hb dX3_mark_90 rfl (lv_at hl 4 rfl) ?_
        refine mk_iast hAt hK hJ hP hS 2 (f := σ 1) rfl a.toNatClampNeg (by omega) (by decide) (σ' := va_up σ 1 (upd (σ 1) a.toNatClampNeg v)) (nw' := nw) (az' := az) rfl dX3_mark_91 (fun H locs hP hS => ?_)
        refine lv_iload hx hb dX3_mark_92 (lv_at hl 0 rfl) ?_
        exact hR _ _ _ _ _ dX3_mark_94 (xk_ifp h0 ⟨rfl, hP⟩) hS
      refine lv_iconst (v := 0) hx hb dX3_mark_75 (by decide) ?_
      exact hR _ _ _ _ _ dX3_mark_76 (xk_ifn (t4_1 c_5) hP) hS
    refine xk_ifeq (tgt := 64) hx hb dX3_mark_57 (by decide) (fun c_3 => ?_) (fun c_3 => ?_)
    · skip
      refine lv_iconst (v := 1) hx hb dX3_mark_64 (by decide) ?_
      exact J65_4 _ _ _ 1 ((if_pos c_3).symm) hP hS (lv_sub hl [0, 1, 2, 3] rfl)
    refine lv_iconst (v := 0) hx hb dX3_mark_60 (by decide) ?_
    refine lv_goto (tgt := 65) hx hb dX3_mark_61 (by decide) ?_
    exact J65_4 _ _ _ 0 ((if_neg (fun h => h c_3)).symm) hP hS (lv_sub hl [0, 1, 2, 3] rfl)
  refine xk_ifeq (tgt := 53) hx hb dX3_mark_6 (by decide) (fun c_1 => ?_) (fun c_1 => ?_)
  · skip
    refine lv_iconst (v := 0) hx hb dX3_mark_53 (by decide) ?_
    exact J54_2 _ _ _ 0 ((if_neg (fun h => c_1 h.1)).symm) hP hS (lv_sub hl [0, 1, 2] rfl)
  refine lv_iload_n hx hb dX3_mark_9 rfl (lv_at hl 2 rfl) ?_
  refine lv_iload_n hx hb dX3_mark_10 rfl (lv_at hl 1 rfl) ?_
  refine lv_iconst (v := 4) hx hb dX3_mark_11 (by decide) ?_
  have J20_7 : ∀ (H : Heap) (locs : List Loc) (ls : Array Slot) (t0 : Int32), t0 = xk_b (a = 4) → mP D ad σ nw az ir n th H → va_S A s.heap H locs → lv_has ls 5 [(0, .ref (ad 0)), (1, .int a), (2, .int v)] → W p l e (xk_R 1 22) s m args below meth c H locs 0 0 Q (F0 m 20 ls [.int t0, .int v]) := by
    intro H locs ls t0 et0 hP hS hl
    subst et0
    refine lv_iload_n hx hb dX3_mark_20 rfl (lv_at hl 1 rfl) ?_
    refine lv_iconst (v := 3) hx hb dX3_mark_21 (by decide) ?_
    have J43_9 : ∀ (H : Heap) (locs : List Loc) (ls : Array Slot) (t0 : Int32), t0 = (if 3 ≤ a then (if a = 3 then 9999 else 99) else 36) → mP D ad σ nw az ir n th H → va_S A s.heap H locs → lv_has ls 5 [(0, .ref (ad 0)), (1, .int a), (2, .int v)] → W p l e (xk_R 1 22) s m args below meth c H locs 0 0 Q (F0 m 43 ls [.int t0, .int (xk_b (a = 4)), .int v]) := by
      intro H locs ls t0 et0 hP hS hl
      subst et0
      refine mk_ciS hAt hK (P := mP D ad σ nw az ir n th) hP hA hS (As := [.int v, .int (xk_b (a = 4)), .int (if 3 ≤ a then (if a = 3 then 9999 else 99) else 36)]) (rest := []) (m_in l D A (mP D ad σ nw az ir n th) v (xk_b (a = 4)) (if 3 ≤ a then (if a = 3 then 9999 else 99) else 36)) (va_cwS 3 hts (lw_S q863 q864 q42 q865) rfl rfl rfl cdX3_in ⟨Nat.le_of_ble_eq_true rfl, Nat.le_of_ble_eq_true rfl⟩) rfl hl.1 rfl (Nat.le_of_ble_eq_true rfl) dX3_mark_43 ⟨Nat.le_refl _, Nat.le_refl _⟩ (fun r H locs hq hS => ?_)
      obtain ⟨rfl, hP⟩ := hq
      refine xk_ifeq (tgt := 53) hx hb dX3_mark_46 (by decide) (fun c_10 => ?_) (fun c_10 => ?_)
      · skip
        refine lv_iconst (v := 0) hx hb dX3_mark_53 (by decide) ?_
        exact J54_2 _ _ _ 0 ((if_neg (fun h => c_10 h.2)).symm) hP hS (lv_sub hl [0, 1, 2] rfl)
      refine lv_iconst (v := 1) hx hb dX3_mark_49 (by decide) ?_
      refine lv_goto (tgt := 54) hx hb dX3_mark_50 (by decide) ?_
      exact J54_2 _ _ _ 1 ((if_pos ⟨c_1, c_10⟩).symm) hP hS (lv_sub hl [0, 1, 2] rfl)
    refine lv_icmp_ge (tgt := 30) hx hb dX3_mark_22 (by decide) (fun c_8 => ?_) (fun c_8 => ?_)
    · skip
      refine lv_iload_n hx hb dX3_mark_30 rfl (lv_at hl 1 rfl) ?_
      refine lv_iconst (v := 3) hx hb dX3_mark_31 (by decide) ?_
      refine lv_icmp_ne (tgt := 41) hx hb dX3_mark_32 (by decide) (fun c_11 => ?_) (fun c_11 => ?_)
      · skip
        refine lv_bipush (v := 99) hx hb dX3_mark_41 (by decide) ?_
        exact J43_9 _ _ _ 99 (((if_neg c_11).symm).trans (if_pos c_8).symm) hP hS (lv_sub hl [0, 1, 2] rfl)
      refine lv_sipush (v := 9999) hx hb dX3_mark_35 (by decide) ?_
      refine lv_goto (tgt := 43) hx hb dX3_mark_38 (by decide) ?_
      exact J43_9 _ _ _ 9999 (((if_pos c_11).symm).trans (if_pos c_8).symm) hP hS (lv_sub hl [0, 1, 2] rfl)
    refine lv_bipush (v := 36) hx hb dX3_mark_25 (by decide) ?_
    refine lv_goto (tgt := 43) hx hb dX3_mark_27 (by decide) ?_
    exact J43_9 _ _ _ 36 ((if_neg c_8).symm) hP hS (lv_sub hl [0, 1, 2] rfl)
  refine lv_icmp_ne (tgt := 19) hx hb dX3_mark_12 (by decide) (fun c_6 => ?_) (fun c_6 => ?_)
  · skip
    refine lv_iconst (v := 0) hx hb dX3_mark_19 (by decide) ?_
    exact J20_7 _ _ _ 0 ((if_neg c_6).symm) hP hS (lv_sub hl [0, 1, 2] rfl)
  refine lv_iconst (v := 1) hx hb dX3_mark_15 (by decide) ?_
  refine lv_goto (tgt := 20) hx hb dX3_mark_16 (by decide) ?_
  exact J20_7 _ _ _ 1 ((if_pos c_6).symm) hP hS (lv_sub hl [0, 1, 2] rfl)
set_option maxHeartbeats 4000000 in
theorem m_own (l : Launch) (D : xk_G) (A : Nat → Prop) (ad : Nat → Nat) (σ : Nat → Nat → Int32) (nw az ir : Nat → Int32) (n : Nat → Nat) (th : Int32) (hJ : mk_ok A ad) (h0m : n 0 ≤ 8) (x : Int32) : Met l yX3_own (ws_ yX3_own cX3_own 2 (some .int)) (xk_R 2 42) (xk_Pre D A (mP D ad σ nw az ir n th) [.ref (ad 0), .int x]) (xk_Pi A (fun r H => if mk_tOwn n x = 0 then (r = nI (n 0) ∧ mP D ad (va_up σ 2 (upd (σ 2) (n 0) x)) nw az ir (va_up n 0 (n 0 + 1)) (mk_tOwn n x) H) else mP D ad σ nw az ir n (mk_tOwn n x) H)) 0 0 A := by
  refine xk_startI (by decide +kernel) (Nat.le_of_ble_eq_true rfl) ?_
  intro p e s m args below meth c Q hAt hin hK hA hP hR ls hl
  obtain ⟨hx, hb, hml, hown, hts⟩ := id hAt
  have hl : lv_has ls 2 [(0, .ref (ad 0)), (1, .int x)] := hl
  have hS : va_S A s.heap s.heap [] := va_S.rf
  refine lv_aload_n hx hb dX3_own_0 rfl (lv_at hl 0 rfl) ?_
  refine lv_iload_n hx hb dX3_own_1 rfl (lv_at hl 1 rfl) ?_
  refine mk_ciS hAt hK (P := mP D ad σ nw az ir n th) hP hA hS (As := [.int x]) (rest := [.ref (ad 0)]) (m_isWord l D A (mP D ad σ nw az ir n th) x) (va_cwS 1 hts (lw_S q870 q871 q42 q872) rfl rfl rfl cdX3_isWord ⟨Nat.le_of_ble_eq_true rfl, Nat.le_of_ble_eq_true rfl⟩) rfl hl.1 rfl (Nat.le_of_ble_eq_true rfl) dX3_own_2 ⟨Nat.le_refl _, Nat.le_refl _⟩ (fun r H locs hq hS => ?_)
  obtain ⟨rfl, hP⟩ := hq
  have J26_2 : ∀ (H : Heap) (locs : List Loc) (ls : Array Slot) (t0 : Int32), t0 = (if mk_in x 0 255 then (if n 0 = 8 then 2 else 0) else 1) → mP D ad σ nw az ir n th H → va_S A s.heap H locs → lv_has ls 2 [(0, .ref (ad 0)), (1, .int x)] → W p l e (xk_R 2 42) s m args below meth c H locs 0 0 Q (F0 m 26 ls [.int t0, .ref (ad 0)]) := by
    intro H locs ls t0 et0 hP hS hl
    subst et0
    refine mk_put hAt hK hJ hP hS 18 (by decide) (hts _ q808) rfl rfl (ty := .int) (by decide +kernel) rfl rfl (ad' := ad) (n' := n) (th' := (if mk_in x 0 255 then (if n 0 = 8 then 2 else 0) else 1)) rfl rfl dX3_own_26 (fun H locs hP hS => ?_)
    have hP : mP D ad σ nw az ir n (if mk_in x 0 255 then (if n 0 = 8 then 2 else 0) else 1) H := hP
    have hP : mP D ad σ nw az ir n (mk_tOwn n x) H := hP
    refine lv_aload_n hx hb dX3_own_29 rfl (lv_at hl 0 rfl) ?_
    refine mk_get hAt hK hP 18 (by decide) (v := .int (mk_tOwn n x)) rfl (hts _ q808) rfl dX3_own_30 ?_
    refine lv_if_le (tgt := 38) hx hb dX3_own_33 (by decide) (fun c_3 => ?_) (fun c_3 => ?_)
    · skip
      have h0 := t4_0 c_3 (mk_tOwn_4 n x)
      have hf := (mk_tOwn_f h0).2
      refine lv_aload_n hx hb dX3_own_38 rfl (lv_at hl 0 rfl) ?_
      refine mk_get hAt hK hP 3 (by decide) (v := .ref (ad 3)) rfl (hts _ q793) rfl dX3_own_39 ?_
      refine lv_aload_n hx hb dX3_own_42 rfl (lv_at hl 0 rfl) ?_
      refine mk_get hAt hK hP 2 (by decide) (v := .int (nI (n 0))) rfl (hts _ q792) rfl dX3_own_43 ?_
      refine lv_iload_n hx hb dX3_own_46 rfl (lv_at hl 1 rfl) ?_
      refine mk_iast hAt hK hJ hP hS 3 (f := σ 2) rfl (n 0) (by omega) (by decide) (σ' := va_up σ 2 (upd (σ 2) (n 0) x)) (nw' := nw) (az' := az) rfl dX3_own_47 (fun H locs hP hS => ?_)
      refine lv_aload_n hx hb dX3_own_48 rfl (lv_at hl 0 rfl) ?_
      refine lv_dup hx hb dX3_own_49 rfl ?_
      refine mk_get hAt hK hP 2 (by decide) (v := .int (nI (n 0))) rfl (hts _ q792) rfl dX3_own_50 ?_
      refine lv_iconst (v := 1) hx hb dX3_own_53 (by decide) ?_
      refine lv_iadd hx hb dX3_own_54 ?_
      refine xk_to (y := nI (n 0 + 1)) (nI_add (n 0) 1) ?_
      refine mk_put hAt hK hJ hP hS 2 (by decide) (hts _ q792) rfl rfl (ty := .int) (by decide +kernel) rfl rfl (ad' := ad) (n' := va_up n 0 (n 0 + 1)) (th' := mk_tOwn n x) rfl rfl dX3_own_55 (fun H locs hP hS => ?_)
      have hP : mP D ad (va_up σ 2 (upd (σ 2) (n 0) x)) nw az ir (va_up n 0 (n 0 + 1)) (mk_tOwn n x) H := hP
      refine lv_aload_n hx hb dX3_own_58 rfl (lv_at hl 0 rfl) ?_
      refine mk_get hAt hK hP 2 (by decide) (v := .int (nI (n 0 + 1))) rfl (hts _ q792) rfl dX3_own_59 ?_
      refine lv_iconst (v := 1) hx hb dX3_own_62 (by decide) ?_
      refine lv_isub hx hb dX3_own_63 ?_
      refine xk_to (y := nI (n 0)) (nI_pred (n 0)) ?_
      exact hR _ _ _ _ _ dX3_own_64 (xk_ifp h0 ⟨rfl, hP⟩) hS
    refine lv_iconst (v := 0) hx hb dX3_own_36 (by decide) ?_
    exact hR _ _ _ _ _ dX3_own_37 (xk_ifn (t4_1 c_3) hP) hS
  refine xk_ifne (tgt := 12) hx hb dX3_own_5 (by decide) (fun c_1 => ?_) (fun c_1 => ?_)
  · skip
    refine lv_aload_n hx hb dX3_own_12 rfl (lv_at hl 0 rfl) ?_
    refine mk_get hAt hK hP 2 (by decide) (v := .int (nI (n 0))) rfl (hts _ q792) rfl dX3_own_13 ?_
    refine lv_bipush (v := 8) hx hb dX3_own_16 (by decide) ?_
    refine mk_ne (tgt := 25) (a := n 0) (b := 8) hx hb (by omega) (by omega) dX3_own_18 (by decide) (fun c_4 => ?_) (fun c_4 => ?_)
    · skip
      refine lv_iconst (v := 0) hx hb dX3_own_25 (by decide) ?_
      exact J26_2 _ _ _ 0 (((if_neg c_4).symm).trans (if_pos c_1).symm) hP hS (lv_sub hl [0, 1] rfl)
    refine lv_iconst (v := 2) hx hb dX3_own_21 (by decide) ?_
    refine lv_goto (tgt := 26) hx hb dX3_own_22 (by decide) ?_
    exact J26_2 _ _ _ 2 (((if_pos c_4).symm).trans (if_pos c_1).symm) hP hS (lv_sub hl [0, 1] rfl)
  refine lv_iconst (v := 1) hx hb dX3_own_8 (by decide) ?_
  refine lv_goto (tgt := 26) hx hb dX3_own_9 (by decide) ?_
  exact J26_2 _ _ _ 1 ((if_neg c_1).symm) hP hS (lv_sub hl [0, 1] rfl)
set_option maxHeartbeats 4000000 in
theorem m_harmA (l : Launch) (D : xk_G) (A : Nat → Prop) (ad : Nat → Nat) (σ : Nat → Nat → Int32) (nw az ir : Nat → Int32) (n : Nat → Nat) (th : Int32) (hJ : mk_ok A ad) (h0m : n 0 ≤ 8) (x : Int32) (hx0 : ¬ ∃ j, j < n 0 ∧ x = nI j) : Met l yX3_harm (ws_ yX3_harm cX3_harm 2 (some .int)) (xk_R 1 22) (xk_Pre D A (mP D ad σ nw az ir n th) [.ref (ad 0), .int x]) (xk_Pi A (fun r H => mP D ad σ nw az ir n 1 H)) 0 0 A := by
  refine xk_startI (by decide +kernel) (Nat.le_of_ble_eq_true rfl) ?_
  intro p e s m args below meth c Q hAt hin hK hA hP hR ls hl
  obtain ⟨hx, hb, hml, hown, hts⟩ := id hAt
  have hl : lv_has ls 2 [(0, .ref (ad 0)), (1, .int x)] := hl
  have hS : va_S A s.heap s.heap [] := va_S.rf
  refine lv_aload_n hx hb dX3_harm_0 rfl (lv_at hl 0 rfl) ?_
  refine lv_iload_n hx hb dX3_harm_1 rfl (lv_at hl 1 rfl) ?_
  refine lv_iconst (v := 0) hx hb dX3_harm_2 (by decide) ?_
  refine lv_aload_n hx hb dX3_harm_3 rfl (lv_at hl 0 rfl) ?_
  refine mk_get hAt hK hP 2 (by decide) (v := .int (nI (n 0))) rfl (hts _ q792) rfl dX3_harm_4 ?_
  refine lv_iconst (v := 1) hx hb dX3_harm_7 (by decide) ?_
  refine lv_isub hx hb dX3_harm_8 ?_
  refine mk_ciS hAt hK (P := mP D ad σ nw az ir n th) hP hA hS (As := [.int x, .int 0, .int ((nI (n 0)) - 1)]) (rest := [.ref (ad 0)]) (m_in l D A (mP D ad σ nw az ir n th) x 0 ((nI (n 0)) - 1)) (va_cwS 3 hts (lw_S q863 q864 q42 q865) rfl rfl rfl cdX3_in ⟨Nat.le_of_ble_eq_true rfl, Nat.le_of_ble_eq_true rfl⟩) rfl hl.1 rfl (Nat.le_of_ble_eq_true rfl) dX3_harm_9 ⟨Nat.le_refl _, Nat.le_refl _⟩ (fun r H locs hq hS => ?_)
  obtain ⟨rfl, hP⟩ := hq
  refine xk_ifeq (tgt := 19) hx hb dX3_harm_12 (by decide) (fun c_1 => ?_) (fun c_1 => ?_)
  · skip
    refine lv_iconst (v := 1) hx hb dX3_harm_19 (by decide) ?_
    refine mk_put hAt hK hJ hP hS 18 (by decide) (hts _ q808) rfl rfl (ty := .int) (by decide +kernel) rfl rfl (ad' := ad) (n' := n) (th' := 1) rfl rfl dX3_harm_20 (fun H locs hP hS => ?_)
    have hP : mP D ad σ nw az ir n 1 H := hP
    refine lv_aload_n hx hb dX3_harm_23 rfl (lv_at hl 0 rfl) ?_
    refine mk_get hAt hK hP 18 (by decide) (v := .int 1) rfl (hts _ q808) rfl dX3_harm_24 ?_
    refine lv_if_ne (tgt := 43) hx hb dX3_harm_27 (by decide) (fun c_2 => ?_) (fun c_2 => ?_)
    · skip
      refine lv_iconst (v := 0) hx hb dX3_harm_43 (by decide) ?_
      exact hR _ _ _ _ _ dX3_harm_44 (hP) hS
    exact absurd c_2 (by decide)
  exact absurd ((mk_inC (by omega)).mp c_1) hx0
set_option maxHeartbeats 4000000 in
theorem m_harmB (l : Launch) (D : xk_G) (A : Nat → Prop) (ad : Nat → Nat) (σ : Nat → Nat → Int32) (nw az ir : Nat → Int32) (n : Nat → Nat) (th : Int32) (hJ : mk_ok A ad) (h0m : n 0 ≤ 8) (k : Nat) (hk : k < n 0) : Met l yX3_harm (ws_ yX3_harm cX3_harm 2 (some .int)) (xk_R 1 22) (xk_Pre D A (mP D ad σ nw az ir n th) [.ref (ad 0), .int (nI k)]) (xk_Pi A (fun r H => r = nw (144 + k) ∧ mP D ad σ nw az ir n 0 H)) 0 0 A := by
  refine xk_startI (by decide +kernel) (Nat.le_of_ble_eq_true rfl) ?_
  intro p e s m args below meth c Q hAt hin hK hA hP hR ls hl
  obtain ⟨hx, hb, hml, hown, hts⟩ := id hAt
  have hl : lv_has ls 2 [(0, .ref (ad 0)), (1, .int (nI k))] := hl
  have hS : va_S A s.heap s.heap [] := va_S.rf
  refine lv_aload_n hx hb dX3_harm_0 rfl (lv_at hl 0 rfl) ?_
  refine lv_iload_n hx hb dX3_harm_1 rfl (lv_at hl 1 rfl) ?_
  refine lv_iconst (v := 0) hx hb dX3_harm_2 (by decide) ?_
  refine lv_aload_n hx hb dX3_harm_3 rfl (lv_at hl 0 rfl) ?_
  refine mk_get hAt hK hP 2 (by decide) (v := .int (nI (n 0))) rfl (hts _ q792) rfl dX3_harm_4 ?_
  refine lv_iconst (v := 1) hx hb dX3_harm_7 (by decide) ?_
  refine lv_isub hx hb dX3_harm_8 ?_
  refine mk_ciS hAt hK (P := mP D ad σ nw az ir n th) hP hA hS (As := [.int (nI k), .int 0, .int ((nI (n 0)) - 1)]) (rest := [.ref (ad 0)]) (m_in l D A (mP D ad σ nw az ir n th) (nI k) 0 ((nI (n 0)) - 1)) (va_cwS 3 hts (lw_S q863 q864 q42 q865) rfl rfl rfl cdX3_in ⟨Nat.le_of_ble_eq_true rfl, Nat.le_of_ble_eq_true rfl⟩) rfl hl.1 rfl (Nat.le_of_ble_eq_true rfl) dX3_harm_9 ⟨Nat.le_refl _, Nat.le_refl _⟩ (fun r H locs hq hS => ?_)
  obtain ⟨rfl, hP⟩ := hq
  refine xk_ifeq (tgt := 19) hx hb dX3_harm_12 (by decide) (fun c_1 => ?_) (fun c_1 => ?_)
  · skip
    exact absurd ((mk_inC (by omega)).mpr ⟨k, hk, rfl⟩) c_1
  refine lv_iconst (v := 0) hx hb dX3_harm_15 (by decide) ?_
  refine lv_goto (tgt := 20) hx hb dX3_harm_16 (by decide) ?_
  refine mk_put hAt hK hJ hP hS 18 (by decide) (hts _ q808) rfl rfl (ty := .int) (by decide +kernel) rfl rfl (ad' := ad) (n' := n) (th' := 0) rfl rfl dX3_harm_20 (fun H locs hP hS => ?_)
  have hP : mP D ad σ nw az ir n 0 H := hP
  refine lv_aload_n hx hb dX3_harm_23 rfl (lv_at hl 0 rfl) ?_
  refine mk_get hAt hK hP 18 (by decide) (v := .int 0) rfl (hts _ q808) rfl dX3_harm_24 ?_
  refine lv_if_ne (tgt := 43) hx hb dX3_harm_27 (by decide) (fun c_2 => ?_) (fun c_2 => ?_)
  · exact absurd (by decide) c_2
  refine lv_aload_n hx hb dX3_harm_30 rfl (lv_at hl 0 rfl) ?_
  refine mk_get hAt hK hP 16 (by decide) (v := .ref (ad 12)) rfl (hts _ q806) rfl dX3_harm_31 ?_
  refine lv_sipush (v := 144) hx hb dX3_harm_34 (by decide) ?_
  refine lv_iload_n hx hb dX3_harm_37 rfl (lv_at hl 1 rfl) ?_
  refine lv_iadd hx hb dX3_harm_38 ?_
  refine xk_to (y := nI (144 + k)) (nI_add 144 k) ?_
  refine mk_iald hAt hK hP 12 (f := nw) rfl (144 + k) (by omega) (by decide) dX3_harm_39 ?_
  refine lv_goto (tgt := 44) hx hb dX3_harm_40 (by decide) ?_
  exact hR _ _ _ _ _ dX3_harm_44 (⟨rfl, hP⟩) hS
set_option maxHeartbeats 4000000 in
theorem m_nearness (l : Launch) (D : xk_G) (A : Nat → Prop) (ad : Nat → Nat) (σ : Nat → Nat → Int32) (nw az ir : Nat → Int32) (n : Nat → Nat) (th : Int32) (hJ : mk_ok A ad) (h0m : n 0 ≤ 8) (x : Int32) : Met l yX3_nearness (ws_ yX3_nearness cX3_nearness 2 (some .int)) (xk_R 3 69) (xk_Pre D A (mP D ad σ nw az ir n th) [.ref (ad 0), .int x]) (xk_Pi A (fun r H => r = (if mk_tWord x = 0 then mk_near σ n x else 0) ∧ mP D ad σ nw az ir n (mk_tWord x) H)) 0 0 A := by
  refine xk_startI (by decide +kernel) (Nat.le_of_ble_eq_true rfl) ?_
  intro p e s m args below meth c Q hAt hin hK hA hP hR ls hl
  obtain ⟨hx, hb, hml, hown, hts⟩ := id hAt
  have hl : lv_has ls 2 [(0, .ref (ad 0)), (1, .int x)] := hl
  have hS : va_S A s.heap s.heap [] := va_S.rf
  refine lv_aload_n hx hb dX3_nearness_0 rfl (lv_at hl 0 rfl) ?_
  refine lv_iload_n hx hb dX3_nearness_1 rfl (lv_at hl 1 rfl) ?_
  refine mk_ciS hAt hK (P := mP D ad σ nw az ir n th) hP hA hS (As := [.int x]) (rest := [.ref (ad 0)]) (m_isWord l D A (mP D ad σ nw az ir n th) x) (va_cwS 1 hts (lw_S q870 q871 q42 q872) rfl rfl rfl cdX3_isWord ⟨Nat.le_of_ble_eq_true rfl, Nat.le_of_ble_eq_true rfl⟩) rfl hl.1 rfl (Nat.le_of_ble_eq_true rfl) dX3_nearness_2 ⟨Nat.le_refl _, Nat.le_refl _⟩ (fun r H locs hq hS => ?_)
  obtain ⟨rfl, hP⟩ := hq
  have J13_2 : ∀ (H : Heap) (locs : List Loc) (ls : Array Slot) (t0 : Int32), t0 = xk_b (¬ (mk_in x 0 255)) → mP D ad σ nw az ir n th H → va_S A s.heap H locs → lv_has ls 2 [(0, .ref (ad 0)), (1, .int x)] → W p l e (xk_R 3 69) s m args below meth c H locs 0 0 Q (F0 m 13 ls [.int t0, .ref (ad 0)]) := by
    intro H locs ls t0 et0 hP hS hl
    subst et0
    refine mk_put hAt hK hJ hP hS 18 (by decide) (hts _ q808) rfl rfl (ty := .int) (by decide +kernel) rfl rfl (ad' := ad) (n' := n) (th' := xk_b (¬ (mk_in x 0 255))) rfl rfl dX3_nearness_13 (fun H locs hP hS => ?_)
    have hP : mP D ad σ nw az ir n (xk_b (¬ (mk_in x 0 255))) H := hP
    have hP : mP D ad σ nw az ir n (mk_tWord x) H := hP
    refine lv_aload_n hx hb dX3_nearness_16 rfl (lv_at hl 0 rfl) ?_
    refine mk_get hAt hK hP 18 (by decide) (v := .int (mk_tWord x)) rfl (hts _ q808) rfl dX3_nearness_17 ?_
    have J32_4 : ∀ (H : Heap) (locs : List Loc) (ls : Array Slot) (t0 : Int32), t0 = (if mk_tWord x = 0 then mk_near σ n x else 0) → mP D ad σ nw az ir n (mk_tWord x) H → va_S A s.heap H locs → lv_has ls 2 [(0, .ref (ad 0)), (1, .int x)] → W p l e (xk_R 3 69) s m args below meth c H locs 0 0 Q (F0 m 32 ls [.int t0]) := by
      intro H locs ls t0 et0 hP hS hl
      subst et0
      exact hR _ _ _ _ _ dX3_nearness_32 (⟨rfl, hP⟩) hS
    refine lv_if_ne (tgt := 31) hx hb dX3_nearness_20 (by decide) (fun c_3 => ?_) (fun c_3 => ?_)
    · skip
      refine lv_iconst (v := 0) hx hb dX3_nearness_31 (by decide) ?_
      exact J32_4 _ _ _ 0 ((if_neg c_3).symm) hP hS (lv_sub hl [0, 1] rfl)
    refine lv_aload_n hx hb dX3_nearness_23 rfl (lv_at hl 0 rfl) ?_
    refine lv_iload_n hx hb dX3_nearness_24 rfl (lv_at hl 1 rfl) ?_
    refine mk_ciV hAt hK hP hA hS (As := [.int x]) (rest := []) (m_near l D A ad σ nw az ir n (mk_tWord x) hJ (by assumption) x) (cwV 1 hts (lw_V q896 q898 qs15 q42 q899) rfl rfl rfl cdX3_near ⟨Nat.le_of_ble_eq_true rfl, Nat.le_of_ble_eq_true rfl⟩) rfl hl.1 rfl (Nat.le_of_ble_eq_true rfl) dX3_nearness_25 ⟨Nat.le_refl _, Nat.le_refl _⟩ (fun r H locs hq hS => ?_)
    obtain ⟨rfl, hP⟩ := hq
    refine lv_goto (tgt := 32) hx hb dX3_nearness_28 (by decide) ?_
    exact J32_4 _ _ _ (mk_near σ n x) ((if_pos c_3).symm) hP hS (lv_sub hl [0, 1] rfl)
  refine xk_ifeq (tgt := 12) hx hb dX3_nearness_5 (by decide) (fun c_1 => ?_) (fun c_1 => ?_)
  · skip
    refine lv_iconst (v := 1) hx hb dX3_nearness_12 (by decide) ?_
    exact J13_2 _ _ _ 1 ((if_pos c_1).symm) hP hS (lv_sub hl [0, 1] rfl)
  refine lv_iconst (v := 0) hx hb dX3_nearness_8 (by decide) ?_
  refine lv_goto (tgt := 13) hx hb dX3_nearness_9 (by decide) ?_
  exact J13_2 _ _ _ 0 ((if_neg (fun h => h c_1)).symm) hP hS (lv_sub hl [0, 1] rfl)
set_option maxHeartbeats 4000000 in
theorem m_segment (l : Launch) (D : xk_G) (A : Nat → Prop) (ad : Nat → Nat) (σ : Nat → Nat → Int32) (nw az ir : Nat → Int32) (n : Nat → Nat) (th : Int32) (hJ : mk_ok A ad) (h1m : n 1 ≤ 4) (x y : Int32) : Met l yX3_segment (ws_ yX3_segment cX3_segment 3 (some .int)) (xk_R 2 42) (xk_Pre D A (mP D ad σ nw az ir n th) [.ref (ad 0), .int x, .int y]) (xk_Pi A (fun r H => if mk_tSeg n x y = 0 then (r = nI (n 1) ∧ mP D ad (va_up (va_up σ 3 (upd (σ 3) (n 1) x)) 4 (upd (σ 4) (n 1) y)) nw az ir (va_up n 1 (n 1 + 1)) (mk_tSeg n x y) H) else mP D ad σ nw az ir n (mk_tSeg n x y) H)) 0 0 A := by
  refine xk_startI (by decide +kernel) (Nat.le_of_ble_eq_true rfl) ?_
  intro p e s m args below meth c Q hAt hin hK hA hP hR ls hl
  obtain ⟨hx, hb, hml, hown, hts⟩ := id hAt
  have hl : lv_has ls 3 [(0, .ref (ad 0)), (1, .int x), (2, .int y)] := hl
  have hS : va_S A s.heap s.heap [] := va_S.rf
  refine lv_aload_n hx hb dX3_segment_0 rfl (lv_at hl 0 rfl) ?_
  refine lv_iload_n hx hb dX3_segment_1 rfl (lv_at hl 1 rfl) ?_
  refine mk_ciS hAt hK (P := mP D ad σ nw az ir n th) hP hA hS (As := [.int x]) (rest := [.ref (ad 0)]) (m_isLetter l D A (mP D ad σ nw az ir n th) x) (va_cwS 1 hts (lw_S q860 q861 q42 q862) rfl rfl rfl cdX3_isLetter ⟨Nat.le_of_ble_eq_true rfl, Nat.le_of_ble_eq_true rfl⟩) rfl hl.1 rfl (Nat.le_of_ble_eq_true rfl) dX3_segment_2 ⟨Nat.le_refl _, Nat.le_refl _⟩ (fun r H locs hq hS => ?_)
  obtain ⟨rfl, hP⟩ := hq
  have J32_2 : ∀ (H : Heap) (locs : List Loc) (ls : Array Slot) (t0 : Int32), t0 = (if mk_in x 0 3 then (if mk_in y 0 3 then (if n 1 = 4 then 2 else 0) else 1) else 1) → mP D ad σ nw az ir n th H → va_S A s.heap H locs → lv_has ls 3 [(0, .ref (ad 0)), (1, .int x), (2, .int y)] → W p l e (xk_R 2 42) s m args below meth c H locs 0 0 Q (F0 m 32 ls [.int t0, .ref (ad 0)]) := by
    intro H locs ls t0 et0 hP hS hl
    subst et0
    refine mk_put hAt hK hJ hP hS 18 (by decide) (hts _ q808) rfl rfl (ty := .int) (by decide +kernel) rfl rfl (ad' := ad) (n' := n) (th' := (if mk_in x 0 3 then (if mk_in y 0 3 then (if n 1 = 4 then 2 else 0) else 1) else 1)) rfl rfl dX3_segment_32 (fun H locs hP hS => ?_)
    have hP : mP D ad σ nw az ir n (if mk_in x 0 3 then (if mk_in y 0 3 then (if n 1 = 4 then 2 else 0) else 1) else 1) H := hP
    have hP : mP D ad σ nw az ir n (mk_tSeg n x y) H := hP
    refine lv_aload_n hx hb dX3_segment_35 rfl (lv_at hl 0 rfl) ?_
    refine mk_get hAt hK hP 18 (by decide) (v := .int (mk_tSeg n x y)) rfl (hts _ q808) rfl dX3_segment_36 ?_
    refine lv_if_le (tgt := 44) hx hb dX3_segment_39 (by decide) (fun c_3 => ?_) (fun c_3 => ?_)
    · skip
      have h0 := t4_0 c_3 (mk_tSeg_4 n x y)
      have hf := (mk_tSeg_f h0).2.2
      refine lv_aload_n hx hb dX3_segment_44 rfl (lv_at hl 0 rfl) ?_
      refine mk_get hAt hK hP 5 (by decide) (v := .ref (ad 4)) rfl (hts _ q795) rfl dX3_segment_45 ?_
      refine lv_aload_n hx hb dX3_segment_48 rfl (lv_at hl 0 rfl) ?_
      refine mk_get hAt hK hP 4 (by decide) (v := .int (nI (n 1))) rfl (hts _ q794) rfl dX3_segment_49 ?_
      refine lv_iload_n hx hb dX3_segment_52 rfl (lv_at hl 1 rfl) ?_
      refine mk_iast hAt hK hJ hP hS 4 (f := σ 3) rfl (n 1) (by omega) (by decide) (σ' := va_up σ 3 (upd (σ 3) (n 1) x)) (nw' := nw) (az' := az) rfl dX3_segment_53 (fun H locs hP hS => ?_)
      refine lv_aload_n hx hb dX3_segment_54 rfl (lv_at hl 0 rfl) ?_
      refine mk_get hAt hK hP 6 (by decide) (v := .ref (ad 5)) rfl (hts _ q796) rfl dX3_segment_55 ?_
      refine lv_aload_n hx hb dX3_segment_58 rfl (lv_at hl 0 rfl) ?_
      refine mk_get hAt hK hP 4 (by decide) (v := .int (nI (n 1))) rfl (hts _ q794) rfl dX3_segment_59 ?_
      refine lv_iload_n hx hb dX3_segment_62 rfl (lv_at hl 2 rfl) ?_
      refine mk_iast hAt hK hJ hP hS 5 (f := σ 4) rfl (n 1) (by omega) (by decide) (σ' := va_up (va_up σ 3 (upd (σ 3) (n 1) x)) 4 (upd (σ 4) (n 1) y)) (nw' := nw) (az' := az) rfl dX3_segment_63 (fun H locs hP hS => ?_)
      refine lv_aload_n hx hb dX3_segment_64 rfl (lv_at hl 0 rfl) ?_
      refine lv_dup hx hb dX3_segment_65 rfl ?_
      refine mk_get hAt hK hP 4 (by decide) (v := .int (nI (n 1))) rfl (hts _ q794) rfl dX3_segment_66 ?_
      refine lv_iconst (v := 1) hx hb dX3_segment_69 (by decide) ?_
      refine lv_iadd hx hb dX3_segment_70 ?_
      refine xk_to (y := nI (n 1 + 1)) (nI_add (n 1) 1) ?_
      refine mk_put hAt hK hJ hP hS 4 (by decide) (hts _ q794) rfl rfl (ty := .int) (by decide +kernel) rfl rfl (ad' := ad) (n' := va_up n 1 (n 1 + 1)) (th' := mk_tSeg n x y) rfl rfl dX3_segment_71 (fun H locs hP hS => ?_)
      have hP : mP D ad (va_up (va_up σ 3 (upd (σ 3) (n 1) x)) 4 (upd (σ 4) (n 1) y)) nw az ir (va_up n 1 (n 1 + 1)) (mk_tSeg n x y) H := hP
      refine lv_aload_n hx hb dX3_segment_74 rfl (lv_at hl 0 rfl) ?_
      refine mk_get hAt hK hP 4 (by decide) (v := .int (nI (n 1 + 1))) rfl (hts _ q794) rfl dX3_segment_75 ?_
      refine lv_iconst (v := 1) hx hb dX3_segment_78 (by decide) ?_
      refine lv_isub hx hb dX3_segment_79 ?_
      refine xk_to (y := nI (n 1)) (nI_pred (n 1)) ?_
      exact hR _ _ _ _ _ dX3_segment_80 (xk_ifp h0 ⟨rfl, hP⟩) hS
    refine lv_iconst (v := 0) hx hb dX3_segment_42 (by decide) ?_
    exact hR _ _ _ _ _ dX3_segment_43 (xk_ifn (t4_1 c_3) hP) hS
  refine xk_ifeq (tgt := 15) hx hb dX3_segment_5 (by decide) (fun c_1 => ?_) (fun c_1 => ?_)
  · skip
    refine lv_iconst (v := 1) hx hb dX3_segment_15 (by decide) ?_
    refine lv_goto (tgt := 32) hx hb dX3_segment_16 (by decide) ?_
    exact J32_2 _ _ _ 1 ((if_neg c_1).symm) hP hS (lv_sub hl [0, 1, 2] rfl)
  refine lv_iload_n hx hb dX3_segment_8 rfl (lv_at hl 2 rfl) ?_
  refine mk_ciS hAt hK (P := mP D ad σ nw az ir n th) hP hA hS (As := [.int y]) (rest := [.ref (ad 0)]) (m_isLetter l D A (mP D ad σ nw az ir n th) y) (va_cwS 1 hts (lw_S q860 q861 q42 q862) rfl rfl rfl cdX3_isLetter ⟨Nat.le_of_ble_eq_true rfl, Nat.le_of_ble_eq_true rfl⟩) rfl hl.1 rfl (Nat.le_of_ble_eq_true rfl) dX3_segment_9 ⟨Nat.le_refl _, Nat.le_refl _⟩ (fun r H locs hq hS => ?_)
  obtain ⟨rfl, hP⟩ := hq
  refine xk_ifne (tgt := 19) hx hb dX3_segment_12 (by decide) (fun c_4 => ?_) (fun c_4 => ?_)
  · skip
    refine lv_aload_n hx hb dX3_segment_19 rfl (lv_at hl 0 rfl) ?_
    refine mk_get hAt hK hP 4 (by decide) (v := .int (nI (n 1))) rfl (hts _ q794) rfl dX3_segment_20 ?_
    refine lv_iconst (v := 4) hx hb dX3_segment_23 (by decide) ?_
    refine mk_ne (tgt := 31) (a := n 1) (b := 4) hx hb (by omega) (by omega) dX3_segment_24 (by decide) (fun c_5 => ?_) (fun c_5 => ?_)
    · skip
      refine lv_iconst (v := 0) hx hb dX3_segment_31 (by decide) ?_
      exact J32_2 _ _ _ 0 ((((if_neg c_5).symm).trans (if_pos c_4).symm).trans (if_pos c_1).symm) hP hS (lv_sub hl [0, 1, 2] rfl)
    refine lv_iconst (v := 2) hx hb dX3_segment_27 (by decide) ?_
    refine lv_goto (tgt := 32) hx hb dX3_segment_28 (by decide) ?_
    exact J32_2 _ _ _ 2 ((((if_pos c_5).symm).trans (if_pos c_4).symm).trans (if_pos c_1).symm) hP hS (lv_sub hl [0, 1, 2] rfl)
  refine lv_iconst (v := 1) hx hb dX3_segment_15 (by decide) ?_
  refine lv_goto (tgt := 32) hx hb dX3_segment_16 (by decide) ?_
  exact J32_2 _ _ _ 1 (((if_neg c_4).symm).trans (if_pos c_1).symm) hP hS (lv_sub hl [0, 1, 2] rfl)
set_option maxHeartbeats 4000000 in
theorem m_joint (l : Launch) (D : xk_G) (A : Nat → Prop) (ad : Nat → Nat) (σ : Nat → Nat → Int32) (nw az ir : Nat → Int32) (n : Nat → Nat) (th : Int32) (hJ : mk_ok A ad) (h2m : n 2 ≤ 4) (x : Int32) : Met l yX3_joint (ws_ yX3_joint cX3_joint 2 (some .int)) (xk_R 2 42) (xk_Pre D A (mP D ad σ nw az ir n th) [.ref (ad 0), .int x]) (xk_Pi A (fun r H => if mk_tJoint n x = 0 then (r = nI (n 2) ∧ mP D ad (va_up σ 5 (upd (σ 5) (n 2) x)) nw az ir (va_up n 2 (n 2 + 1)) (mk_tJoint n x) H) else mP D ad σ nw az ir n (mk_tJoint n x) H)) 0 0 A := by
  refine xk_startI (by decide +kernel) (Nat.le_of_ble_eq_true rfl) ?_
  intro p e s m args below meth c Q hAt hin hK hA hP hR ls hl
  obtain ⟨hx, hb, hml, hown, hts⟩ := id hAt
  have hl : lv_has ls 2 [(0, .ref (ad 0)), (1, .int x)] := hl
  have hS : va_S A s.heap s.heap [] := va_S.rf
  refine lv_aload_n hx hb dX3_joint_0 rfl (lv_at hl 0 rfl) ?_
  refine lv_iload_n hx hb dX3_joint_1 rfl (lv_at hl 1 rfl) ?_
  refine mk_ciS hAt hK (P := mP D ad σ nw az ir n th) hP hA hS (As := [.int x]) (rest := [.ref (ad 0)]) (m_isLetter l D A (mP D ad σ nw az ir n th) x) (va_cwS 1 hts (lw_S q860 q861 q42 q862) rfl rfl rfl cdX3_isLetter ⟨Nat.le_of_ble_eq_true rfl, Nat.le_of_ble_eq_true rfl⟩) rfl hl.1 rfl (Nat.le_of_ble_eq_true rfl) dX3_joint_2 ⟨Nat.le_refl _, Nat.le_refl _⟩ (fun r H locs hq hS => ?_)
  obtain ⟨rfl, hP⟩ := hq
  have J25_2 : ∀ (H : Heap) (locs : List Loc) (ls : Array Slot) (t0 : Int32), t0 = (if mk_in x 0 3 then (if n 2 = 4 then 2 else 0) else 1) → mP D ad σ nw az ir n th H → va_S A s.heap H locs → lv_has ls 2 [(0, .ref (ad 0)), (1, .int x)] → W p l e (xk_R 2 42) s m args below meth c H locs 0 0 Q (F0 m 25 ls [.int t0, .ref (ad 0)]) := by
    intro H locs ls t0 et0 hP hS hl
    subst et0
    refine mk_put hAt hK hJ hP hS 18 (by decide) (hts _ q808) rfl rfl (ty := .int) (by decide +kernel) rfl rfl (ad' := ad) (n' := n) (th' := (if mk_in x 0 3 then (if n 2 = 4 then 2 else 0) else 1)) rfl rfl dX3_joint_25 (fun H locs hP hS => ?_)
    have hP : mP D ad σ nw az ir n (if mk_in x 0 3 then (if n 2 = 4 then 2 else 0) else 1) H := hP
    have hP : mP D ad σ nw az ir n (mk_tJoint n x) H := hP
    refine lv_aload_n hx hb dX3_joint_28 rfl (lv_at hl 0 rfl) ?_
    refine mk_get hAt hK hP 18 (by decide) (v := .int (mk_tJoint n x)) rfl (hts _ q808) rfl dX3_joint_29 ?_
    refine lv_if_le (tgt := 37) hx hb dX3_joint_32 (by decide) (fun c_3 => ?_) (fun c_3 => ?_)
    · skip
      have h0 := t4_0 c_3 (mk_tJoint_4 n x)
      have hf := (mk_tJoint_f h0).2
      refine lv_aload_n hx hb dX3_joint_37 rfl (lv_at hl 0 rfl) ?_
      refine mk_get hAt hK hP 8 (by decide) (v := .ref (ad 6)) rfl (hts _ q798) rfl dX3_joint_38 ?_
      refine lv_aload_n hx hb dX3_joint_41 rfl (lv_at hl 0 rfl) ?_
      refine mk_get hAt hK hP 7 (by decide) (v := .int (nI (n 2))) rfl (hts _ q797) rfl dX3_joint_42 ?_
      refine lv_iload_n hx hb dX3_joint_45 rfl (lv_at hl 1 rfl) ?_
      refine mk_iast hAt hK hJ hP hS 6 (f := σ 5) rfl (n 2) (by omega) (by decide) (σ' := va_up σ 5 (upd (σ 5) (n 2) x)) (nw' := nw) (az' := az) rfl dX3_joint_46 (fun H locs hP hS => ?_)
      refine lv_aload_n hx hb dX3_joint_47 rfl (lv_at hl 0 rfl) ?_
      refine lv_dup hx hb dX3_joint_48 rfl ?_
      refine mk_get hAt hK hP 7 (by decide) (v := .int (nI (n 2))) rfl (hts _ q797) rfl dX3_joint_49 ?_
      refine lv_iconst (v := 1) hx hb dX3_joint_52 (by decide) ?_
      refine lv_iadd hx hb dX3_joint_53 ?_
      refine xk_to (y := nI (n 2 + 1)) (nI_add (n 2) 1) ?_
      refine mk_put hAt hK hJ hP hS 7 (by decide) (hts _ q797) rfl rfl (ty := .int) (by decide +kernel) rfl rfl (ad' := ad) (n' := va_up n 2 (n 2 + 1)) (th' := mk_tJoint n x) rfl rfl dX3_joint_54 (fun H locs hP hS => ?_)
      have hP : mP D ad (va_up σ 5 (upd (σ 5) (n 2) x)) nw az ir (va_up n 2 (n 2 + 1)) (mk_tJoint n x) H := hP
      refine lv_aload_n hx hb dX3_joint_57 rfl (lv_at hl 0 rfl) ?_
      refine mk_get hAt hK hP 7 (by decide) (v := .int (nI (n 2 + 1))) rfl (hts _ q797) rfl dX3_joint_58 ?_
      refine lv_iconst (v := 1) hx hb dX3_joint_61 (by decide) ?_
      refine lv_isub hx hb dX3_joint_62 ?_
      refine xk_to (y := nI (n 2)) (nI_pred (n 2)) ?_
      exact hR _ _ _ _ _ dX3_joint_63 (xk_ifp h0 ⟨rfl, hP⟩) hS
    refine lv_iconst (v := 0) hx hb dX3_joint_35 (by decide) ?_
    exact hR _ _ _ _ _ dX3_joint_36 (xk_ifn (t4_1 c_3) hP) hS
  refine xk_ifne (tgt := 12) hx hb dX3_joint_5 (by decide) (fun c_1 => ?_) (fun c_1 => ?_)
  · skip
    refine lv_aload_n hx hb dX3_joint_12 rfl (lv_at hl 0 rfl) ?_
    refine mk_get hAt hK hP 7 (by decide) (v := .int (nI (n 2))) rfl (hts _ q797) rfl dX3_joint_13 ?_
    refine lv_iconst (v := 4) hx hb dX3_joint_16 (by decide) ?_
    refine mk_ne (tgt := 24) (a := n 2) (b := 4) hx hb (by omega) (by omega) dX3_joint_17 (by decide) (fun c_4 => ?_) (fun c_4 => ?_)
    · skip
      refine lv_iconst (v := 0) hx hb dX3_joint_24 (by decide) ?_
      exact J25_2 _ _ _ 0 (((if_neg c_4).symm).trans (if_pos c_1).symm) hP hS (lv_sub hl [0, 1] rfl)
    refine lv_iconst (v := 2) hx hb dX3_joint_20 (by decide) ?_
    refine lv_goto (tgt := 25) hx hb dX3_joint_21 (by decide) ?_
    exact J25_2 _ _ _ 2 (((if_pos c_4).symm).trans (if_pos c_1).symm) hP hS (lv_sub hl [0, 1] rfl)
  refine lv_iconst (v := 1) hx hb dX3_joint_8 (by decide) ?_
  refine lv_goto (tgt := 25) hx hb dX3_joint_9 (by decide) ?_
  exact J25_2 _ _ _ 1 ((if_neg c_1).symm) hP hS (lv_sub hl [0, 1] rfl)
set_option maxHeartbeats 4000000 in
theorem m_adds (l : Launch) (D : xk_G) (A : Nat → Prop) (ad : Nat → Nat) (σ : Nat → Nat → Int32) (nw az ir : Nat → Int32) (n : Nat → Nat) (th : Int32) (hJ : mk_ok A ad) (hk : n 3 < 40) (lo ki st wk pa : Int32) : Met l yX3_adds (ws_ yX3_adds cX3_adds 7 (some .int)) (xk_R 0 0) (xk_Pre D A (mP D ad σ nw az ir n th) [.ref (ad 0), .int lo, .int ki, .int st, .int wk, .int pa]) (xk_Pi A (fun r H => r = nI (n 3) ∧ mP D ad (mk_addS σ (n 3) lo ki pa) (mk_add4 nw (n 3) st wk) az ir (va_up n 3 (n 3 + 1)) th H)) 0 0 A := by
  refine xk_startI (by decide +kernel) (Nat.le_of_ble_eq_true rfl) ?_
  intro p e s m args below meth c Q hAt hin hK hA hP hR ls hl
  obtain ⟨hx, hb, hml, hown, hts⟩ := id hAt
  have hl : lv_has ls 7 [(0, .ref (ad 0)), (1, .int lo), (2, .int ki), (3, .int st), (4, .int wk), (5, .int pa)] := hl
  have hS : va_S A s.heap s.heap [] := va_S.rf
  refine lv_aload_n hx hb dX3_adds_0 rfl (lv_at hl 0 rfl) ?_
  refine mk_get hAt hK hP 10 (by decide) (v := .ref (ad 7)) rfl (hts _ q800) rfl dX3_adds_1 ?_
  refine lv_aload_n hx hb dX3_adds_4 rfl (lv_at hl 0 rfl) ?_
  refine mk_get hAt hK hP 9 (by decide) (v := .int (nI (n 3))) rfl (hts _ q799) rfl dX3_adds_5 ?_
  refine lv_iload_n hx hb dX3_adds_8 rfl (lv_at hl 1 rfl) ?_
  refine mk_iast hAt hK hJ hP hS 7 (f := σ 6) rfl (n 3) (by omega) (by decide) (σ' := va_up σ 6 (upd (σ 6) (n 3) lo)) (nw' := nw) (az' := az) rfl dX3_adds_9 (fun H locs hP hS => ?_)
  refine lv_aload_n hx hb dX3_adds_10 rfl (lv_at hl 0 rfl) ?_
  refine mk_get hAt hK hP 11 (by decide) (v := .ref (ad 8)) rfl (hts _ q801) rfl dX3_adds_11 ?_
  refine lv_aload_n hx hb dX3_adds_14 rfl (lv_at hl 0 rfl) ?_
  refine mk_get hAt hK hP 9 (by decide) (v := .int (nI (n 3))) rfl (hts _ q799) rfl dX3_adds_15 ?_
  refine lv_iload_n hx hb dX3_adds_18 rfl (lv_at hl 2 rfl) ?_
  refine mk_iast hAt hK hJ hP hS 8 (f := σ 7) rfl (n 3) (by omega) (by decide) (σ' := va_up (va_up σ 6 (upd (σ 6) (n 3) lo)) 7 (upd (σ 7) (n 3) ki)) (nw' := nw) (az' := az) rfl dX3_adds_19 (fun H locs hP hS => ?_)
  refine lv_aload_n hx hb dX3_adds_20 rfl (lv_at hl 0 rfl) ?_
  refine mk_get hAt hK hP 12 (by decide) (v := .ref (ad 9)) rfl (hts _ q802) rfl dX3_adds_21 ?_
  refine lv_aload_n hx hb dX3_adds_24 rfl (lv_at hl 0 rfl) ?_
  refine mk_get hAt hK hP 9 (by decide) (v := .int (nI (n 3))) rfl (hts _ q799) rfl dX3_adds_25 ?_
  refine lv_iload hx hb dX3_adds_28 (lv_at hl 5 rfl) ?_
  refine mk_iast hAt hK hJ hP hS 9 (f := σ 8) rfl (n 3) (by omega) (by decide) (σ' := va_up (va_up (va_up σ 6 (upd (σ 6) (n 3) lo)) 7 (upd (σ 7) (n 3) ki)) 8 (upd (σ 8) (n 3) pa)) (nw' := nw) (az' := az) rfl dX3_adds_30 (fun H locs hP hS => ?_)
  refine lv_iload_n hx hb dX3_adds_31 rfl (lv_at hl 3 rfl) ?_
  refine lv_iconst (v := 1) hx hb dX3_adds_32 (by decide) ?_
  have J41_2 : ∀ (H : Heap) (locs : List Loc) (ls : Array Slot) (t0 : Int32), t0 = xk_b (¬ (st ≤ 1)) → mP D ad (va_up (va_up (va_up σ 6 (upd (σ 6) (n 3) lo)) 7 (upd (σ 7) (n 3) ki)) 8 (upd (σ 8) (n 3) pa)) nw az ir n th H → va_S A s.heap H locs → lv_has ls 7 [(0, .ref (ad 0)), (1, .int lo), (2, .int ki), (3, .int st), (4, .int wk), (5, .int pa)] → W p l e (xk_R 0 0) s m args below meth c H locs 0 0 Q (F0 m 41 ls [.int t0]) := by
    intro H locs ls t0 et0 hP hS hl
    subst et0
    refine lv_istore (lv' := [(6, .int (xk_b (¬ (st ≤ 1)))), (0, .ref (ad 0)), (1, .int lo), (2, .int ki), (3, .int st), (4, .int wk), (5, .int pa)]) hx hb dX3_adds_41 hl (by decide) rfl (fun ls hl => ?_)
    have hl : lv_has ls 7 [(6, .int (xk_b (¬ (st ≤ 1)))), (0, .ref (ad 0)), (1, .int lo), (2, .int ki), (3, .int st), (4, .int wk), (5, .int pa)] := hl
    refine lv_aload_n hx hb dX3_adds_43 rfl (lv_at hl 1 rfl) ?_
    refine mk_get hAt hK hP 16 (by decide) (v := .ref (ad 12)) rfl (hts _ q806) rfl dX3_adds_44 ?_
    refine lv_iconst (v := 0) hx hb dX3_adds_47 (by decide) ?_
    refine lv_aload_n hx hb dX3_adds_48 rfl (lv_at hl 1 rfl) ?_
    refine mk_get hAt hK hP 9 (by decide) (v := .int (nI (n 3))) rfl (hts _ q799) rfl dX3_adds_49 ?_
    refine lv_iadd hx hb dX3_adds_52 ?_
    refine xk_to (y := nI (n 3)) (xk_0 (n 3)) ?_
    refine lv_iload_n hx hb dX3_adds_53 rfl (lv_at hl 4 rfl) ?_
    refine mk_iast hAt hK hJ hP hS 12 (f := nw) rfl (n 3) (by omega) (by decide) (σ' := va_up (va_up (va_up σ 6 (upd (σ 6) (n 3) lo)) 7 (upd (σ 7) (n 3) ki)) 8 (upd (σ 8) (n 3) pa)) (nw' := upd nw (n 3) st) (az' := az) rfl dX3_adds_54 (fun H locs hP hS => ?_)
    have hP : mP D ad (va_up (va_up (va_up σ 6 (upd (σ 6) (n 3) lo)) 7 (upd (σ 7) (n 3) ki)) 8 (upd (σ 8) (n 3) pa)) (mk_add0 nw (n 3) st) az ir n th H := hP
    refine lv_aload_n hx hb dX3_adds_55 rfl (lv_at hl 1 rfl) ?_
    refine mk_get hAt hK hP 16 (by decide) (v := .ref (ad 12)) rfl (hts _ q806) rfl dX3_adds_56 ?_
    refine lv_bipush (v := 40) hx hb dX3_adds_59 (by decide) ?_
    refine lv_aload_n hx hb dX3_adds_61 rfl (lv_at hl 1 rfl) ?_
    refine mk_get hAt hK hP 9 (by decide) (v := .int (nI (n 3))) rfl (hts _ q799) rfl dX3_adds_62 ?_
    refine lv_iadd hx hb dX3_adds_65 ?_
    refine xk_to (y := nI (40 + n 3)) (nI_add 40 (n 3)) ?_
    refine lv_iload hx hb dX3_adds_66 (lv_at hl 0 rfl) ?_
    have J76_4 : ∀ (H : Heap) (locs : List Loc) (ls : Array Slot) (t0 : Int32), t0 = xk_b (¬ (st ≤ 1)) → mP D ad (va_up (va_up (va_up σ 6 (upd (σ 6) (n 3) lo)) 7 (upd (σ 7) (n 3) ki)) 8 (upd (σ 8) (n 3) pa)) (mk_add0 nw (n 3) st) az ir n th H → va_S A s.heap H locs → lv_has ls 7 [(6, .int (xk_b (¬ (st ≤ 1)))), (0, .ref (ad 0)), (1, .int lo), (2, .int ki), (3, .int st), (4, .int wk), (5, .int pa)] → W p l e (xk_R 0 0) s m args below meth c H locs 0 0 Q (F0 m 76 ls [.int t0, .int (nI (40 + n 3)), .ref (ad 12)]) := by
      intro H locs ls t0 et0 hP hS hl
      subst et0
      refine mk_iast hAt hK hJ hP hS 12 (f := mk_add0 nw (n 3) st) rfl (40 + n 3) (by omega) (by decide) (σ' := va_up (va_up (va_up σ 6 (upd (σ 6) (n 3) lo)) 7 (upd (σ 7) (n 3) ki)) 8 (upd (σ 8) (n 3) pa)) (nw' := upd (mk_add0 nw (n 3) st) (40 + n 3) (xk_b (¬ (st ≤ 1)))) (az' := az) rfl dX3_adds_76 (fun H locs hP hS => ?_)
      have hP : mP D ad (va_up (va_up (va_up σ 6 (upd (σ 6) (n 3) lo)) 7 (upd (σ 7) (n 3) ki)) 8 (upd (σ 8) (n 3) pa)) (mk_add1 nw (n 3) st) az ir n th H := hP
      refine lv_aload_n hx hb dX3_adds_77 rfl (lv_at hl 1 rfl) ?_
      refine mk_get hAt hK hP 16 (by decide) (v := .ref (ad 12)) rfl (hts _ q806) rfl dX3_adds_78 ?_
      refine lv_bipush (v := 80) hx hb dX3_adds_81 (by decide) ?_
      refine lv_aload_n hx hb dX3_adds_83 rfl (lv_at hl 1 rfl) ?_
      refine mk_get hAt hK hP 9 (by decide) (v := .int (nI (n 3))) rfl (hts _ q799) rfl dX3_adds_84 ?_
      refine lv_iadd hx hb dX3_adds_87 ?_
      refine xk_to (y := nI (80 + n 3)) (nI_add 80 (n 3)) ?_
      refine lv_iload hx hb dX3_adds_88 (lv_at hl 0 rfl) ?_
      have J99_6 : ∀ (H : Heap) (locs : List Loc) (ls : Array Slot) (t0 : Int32), t0 = (if ¬ (st ≤ 1) then wk else 0) → mP D ad (va_up (va_up (va_up σ 6 (upd (σ 6) (n 3) lo)) 7 (upd (σ 7) (n 3) ki)) 8 (upd (σ 8) (n 3) pa)) (mk_add1 nw (n 3) st) az ir n th H → va_S A s.heap H locs → lv_has ls 7 [(6, .int (xk_b (¬ (st ≤ 1)))), (0, .ref (ad 0)), (1, .int lo), (2, .int ki), (3, .int st), (4, .int wk), (5, .int pa)] → W p l e (xk_R 0 0) s m args below meth c H locs 0 0 Q (F0 m 99 ls [.int t0, .int (nI (80 + n 3)), .ref (ad 12)]) := by
        intro H locs ls t0 et0 hP hS hl
        subst et0
        refine mk_iast hAt hK hJ hP hS 12 (f := mk_add1 nw (n 3) st) rfl (80 + n 3) (by omega) (by decide) (σ' := va_up (va_up (va_up σ 6 (upd (σ 6) (n 3) lo)) 7 (upd (σ 7) (n 3) ki)) 8 (upd (σ 8) (n 3) pa)) (nw' := upd (mk_add1 nw (n 3) st) (80 + n 3) (if ¬ (st ≤ 1) then wk else 0)) (az' := az) rfl dX3_adds_99 (fun H locs hP hS => ?_)
        have hP : mP D ad (va_up (va_up (va_up σ 6 (upd (σ 6) (n 3) lo)) 7 (upd (σ 7) (n 3) ki)) 8 (upd (σ 8) (n 3) pa)) (mk_add2 nw (n 3) st wk) az ir n th H := hP
        refine lv_aload_n hx hb dX3_adds_100 rfl (lv_at hl 1 rfl) ?_
        refine mk_get hAt hK hP 16 (by decide) (v := .ref (ad 12)) rfl (hts _ q806) rfl dX3_adds_101 ?_
        refine lv_sipush (v := 152) hx hb dX3_adds_104 (by decide) ?_
        refine lv_dup2_11 hx hb dX3_adds_107 rfl rfl ?_
        refine mk_iald hAt hK hP 12 (f := mk_add2 nw (n 3) st wk) rfl 152 (by omega) (by decide) dX3_adds_108 ?_
        refine lv_iconst (v := 1) hx hb dX3_adds_109 (by decide) ?_
        refine lv_iadd hx hb dX3_adds_110 ?_
        refine mk_iast hAt hK hJ hP hS 12 (f := mk_add2 nw (n 3) st wk) rfl 152 (by omega) (by decide) (σ' := va_up (va_up (va_up σ 6 (upd (σ 6) (n 3) lo)) 7 (upd (σ 7) (n 3) ki)) 8 (upd (σ 8) (n 3) pa)) (nw' := upd (mk_add2 nw (n 3) st wk) 152 (((mk_add2 nw (n 3) st wk) 152) + 1)) (az' := az) rfl dX3_adds_111 (fun H locs hP hS => ?_)
        have hP : mP D ad (va_up (va_up (va_up σ 6 (upd (σ 6) (n 3) lo)) 7 (upd (σ 7) (n 3) ki)) 8 (upd (σ 8) (n 3) pa)) (mk_add3 nw (n 3) st wk) az ir n th H := hP
        refine lv_aload_n hx hb dX3_adds_112 rfl (lv_at hl 1 rfl) ?_
        refine mk_get hAt hK hP 16 (by decide) (v := .ref (ad 12)) rfl (hts _ q806) rfl dX3_adds_113 ?_
        refine lv_sipush (v := 153) hx hb dX3_adds_116 (by decide) ?_
        refine lv_dup2_11 hx hb dX3_adds_119 rfl rfl ?_
        refine mk_iald hAt hK hP 12 (f := mk_add3 nw (n 3) st wk) rfl 153 (by omega) (by decide) dX3_adds_120 ?_
        refine lv_iload hx hb dX3_adds_121 (lv_at hl 0 rfl) ?_
        have J131_8 : ∀ (H : Heap) (locs : List Loc) (ls : Array Slot) (t0 : Int32), t0 = xk_b (¬ (¬ (st ≤ 1))) → mP D ad (va_up (va_up (va_up σ 6 (upd (σ 6) (n 3) lo)) 7 (upd (σ 7) (n 3) ki)) 8 (upd (σ 8) (n 3) pa)) (mk_add3 nw (n 3) st wk) az ir n th H → va_S A s.heap H locs → lv_has ls 7 [(6, .int (xk_b (¬ (st ≤ 1)))), (0, .ref (ad 0)), (1, .int lo), (2, .int ki), (3, .int st), (4, .int wk), (5, .int pa)] → W p l e (xk_R 0 0) s m args below meth c H locs 0 0 Q (F0 m 131 ls [.int t0, .int ((mk_add3 nw (n 3) st wk) 153), .int 153, .ref (ad 12)]) := by
          intro H locs ls t0 et0 hP hS hl
          subst et0
          refine lv_iadd hx hb dX3_adds_131 ?_
          refine mk_iast hAt hK hJ hP hS 12 (f := mk_add3 nw (n 3) st wk) rfl 153 (by omega) (by decide) (σ' := va_up (va_up (va_up σ 6 (upd (σ 6) (n 3) lo)) 7 (upd (σ 7) (n 3) ki)) 8 (upd (σ 8) (n 3) pa)) (nw' := upd (mk_add3 nw (n 3) st wk) 153 (((mk_add3 nw (n 3) st wk) 153) + (xk_b (¬ (¬ (st ≤ 1)))))) (az' := az) rfl dX3_adds_132 (fun H locs hP hS => ?_)
          have hP : mP D ad (va_up (va_up (va_up σ 6 (upd (σ 6) (n 3) lo)) 7 (upd (σ 7) (n 3) ki)) 8 (upd (σ 8) (n 3) pa)) (mk_add4 nw (n 3) st wk) az ir n th H := hP
          refine lv_aload_n hx hb dX3_adds_133 rfl (lv_at hl 1 rfl) ?_
          refine lv_dup hx hb dX3_adds_134 rfl ?_
          refine mk_get hAt hK hP 9 (by decide) (v := .int (nI (n 3))) rfl (hts _ q799) rfl dX3_adds_135 ?_
          refine lv_iconst (v := 1) hx hb dX3_adds_138 (by decide) ?_
          refine lv_iadd hx hb dX3_adds_139 ?_
          refine xk_to (y := nI (n 3 + 1)) (nI_add (n 3) 1) ?_
          refine mk_put hAt hK hJ hP hS 9 (by decide) (hts _ q799) rfl rfl (ty := .int) (by decide +kernel) rfl rfl (ad' := ad) (n' := va_up n 3 (n 3 + 1)) (th' := th) rfl rfl dX3_adds_140 (fun H locs hP hS => ?_)
          have hP : mP D ad (va_up (va_up (va_up σ 6 (upd (σ 6) (n 3) lo)) 7 (upd (σ 7) (n 3) ki)) 8 (upd (σ 8) (n 3) pa)) (mk_add4 nw (n 3) st wk) az ir (va_up n 3 (n 3 + 1)) th H := hP
          refine lv_aload_n hx hb dX3_adds_143 rfl (lv_at hl 1 rfl) ?_
          refine mk_get hAt hK hP 9 (by decide) (v := .int (nI (n 3 + 1))) rfl (hts _ q799) rfl dX3_adds_144 ?_
          refine lv_iconst (v := 1) hx hb dX3_adds_147 (by decide) ?_
          refine lv_isub hx hb dX3_adds_148 ?_
          refine xk_to (y := nI (n 3)) (nI_pred (n 3)) ?_
          exact hR _ _ _ _ _ dX3_adds_149 (⟨rfl, hP⟩) hS
        refine xk_ifeq (tgt := 130) hx hb dX3_adds_123 (by decide) (fun c_7 => ?_) (fun c_7 => ?_)
        · skip
          refine lv_iconst (v := 1) hx hb dX3_adds_130 (by decide) ?_
          exact J131_8 _ _ _ 1 ((if_pos c_7).symm) hP hS (lv_sub hl [0, 1, 2, 3, 4, 5, 6] rfl)
        refine lv_iconst (v := 0) hx hb dX3_adds_126 (by decide) ?_
        refine lv_goto (tgt := 131) hx hb dX3_adds_127 (by decide) ?_
        exact J131_8 _ _ _ 0 ((if_neg (fun h => h c_7)).symm) hP hS (lv_sub hl [0, 1, 2, 3, 4, 5, 6] rfl)
      refine xk_ifeq (tgt := 98) hx hb dX3_adds_90 (by decide) (fun c_5 => ?_) (fun c_5 => ?_)
      · skip
        refine lv_iconst (v := 0) hx hb dX3_adds_98 (by decide) ?_
        exact J99_6 _ _ _ 0 ((if_neg c_5).symm) hP hS (lv_sub hl [0, 1, 2, 3, 4, 5, 6] rfl)
      refine lv_iload hx hb dX3_adds_93 (lv_at hl 5 rfl) ?_
      refine lv_goto (tgt := 99) hx hb dX3_adds_95 (by decide) ?_
      exact J99_6 _ _ _ wk ((if_pos c_5).symm) hP hS (lv_sub hl [0, 1, 2, 3, 4, 5, 6] rfl)
    refine xk_ifeq (tgt := 75) hx hb dX3_adds_68 (by decide) (fun c_3 => ?_) (fun c_3 => ?_)
    · skip
      refine lv_iconst (v := 0) hx hb dX3_adds_75 (by decide) ?_
      exact J76_4 _ _ _ 0 ((if_neg c_3).symm) hP hS (lv_sub hl [0, 1, 2, 3, 4, 5, 6] rfl)
    refine lv_iconst (v := 1) hx hb dX3_adds_71 (by decide) ?_
    refine lv_goto (tgt := 76) hx hb dX3_adds_72 (by decide) ?_
    exact J76_4 _ _ _ 1 ((if_pos c_3).symm) hP hS (lv_sub hl [0, 1, 2, 3, 4, 5, 6] rfl)
  refine lv_icmp_le (tgt := 40) hx hb dX3_adds_33 (by decide) (fun c_1 => ?_) (fun c_1 => ?_)
  · skip
    refine lv_iconst (v := 0) hx hb dX3_adds_40 (by decide) ?_
    exact J41_2 _ _ _ 0 ((if_neg (fun h => h c_1)).symm) hP hS (lv_sub hl [0, 1, 2, 3, 4, 5] rfl)
  refine lv_iconst (v := 1) hx hb dX3_adds_36 (by decide) ?_
  refine lv_goto (tgt := 41) hx hb dX3_adds_37 (by decide) ?_
  exact J41_2 _ _ _ 1 ((if_pos c_1).symm) hP hS (lv_sub hl [0, 1, 2, 3, 4, 5] rfl)
set_option maxHeartbeats 4000000 in
theorem m_drawA (l : Launch) (D : xk_G) (A : Nat → Prop) (ad : Nat → Nat) (σ : Nat → Nat → Int32) (nw az ir : Nat → Int32) (n : Nat → Nat) (th : Int32) (hJ : mk_ok A ad) (h1m : n 1 ≤ 4) (h2m : n 2 ≤ 4) (x y z h : Int32) (hx0 : ¬ ((∃ j, j < n 1 ∧ x = nI j) ∧ ∃ j, j < n 2 ∧ y = nI j)) : Met l yX3_draw (ws_ yX3_draw cX3_draw 10 (some .int)) (xk_R 1 22) (xk_Pre D A (mP D ad σ nw az ir n th) [.ref (ad 0), .int x, .int y, .int z, .int h]) (xk_Pi A (fun r H => mP D ad σ nw az ir n 1 H)) 0 0 A := by
  refine xk_startI (by decide +kernel) (Nat.le_of_ble_eq_true rfl) ?_
  intro p e s m args below meth c Q hAt hin hK hA hP hR ls hl
  obtain ⟨hx, hb, hml, hown, hts⟩ := id hAt
  have hl : lv_has ls 10 [(0, .ref (ad 0)), (1, .int x), (2, .int y), (3, .int z), (4, .int h)] := hl
  have hS : va_S A s.heap s.heap [] := va_S.rf
  refine lv_iload_n hx hb dX3_draw_0 rfl (lv_at hl 1 rfl) ?_
  refine lv_iconst (v := 0) hx hb dX3_draw_1 (by decide) ?_
  refine lv_aload_n hx hb dX3_draw_2 rfl (lv_at hl 0 rfl) ?_
  refine mk_get hAt hK hP 4 (by decide) (v := .int (nI (n 1))) rfl (hts _ q794) rfl dX3_draw_3 ?_
  refine lv_iconst (v := 1) hx hb dX3_draw_6 (by decide) ?_
  refine lv_isub hx hb dX3_draw_7 ?_
  refine mk_ciS hAt hK (P := mP D ad σ nw az ir n th) hP hA hS (As := [.int x, .int 0, .int ((nI (n 1)) - 1)]) (rest := []) (m_in l D A (mP D ad σ nw az ir n th) x 0 ((nI (n 1)) - 1)) (va_cwS 3 hts (lw_S q863 q864 q42 q865) rfl rfl rfl cdX3_in ⟨Nat.le_of_ble_eq_true rfl, Nat.le_of_ble_eq_true rfl⟩) rfl hl.1 rfl (Nat.le_of_ble_eq_true rfl) dX3_draw_8 ⟨Nat.le_refl _, Nat.le_refl _⟩ (fun r H locs hq hS => ?_)
  obtain ⟨rfl, hP⟩ := hq
  have J33_2 : ∀ (H : Heap) (locs : List Loc) (ls : Array Slot), mP D ad σ nw az ir n th H → va_S A s.heap H locs → lv_has ls 10 [(0, .ref (ad 0)), (1, .int x), (2, .int y), (3, .int z), (4, .int h)] → W p l e (xk_R 1 22) s m args below meth c H locs 0 0 Q (F0 m 33 ls [.int 0]) := by
    intro H locs ls   hP hS hl
    refine lv_istore (lv' := [(5, .int 0), (0, .ref (ad 0)), (1, .int x), (2, .int y), (3, .int z), (4, .int h)]) hx hb dX3_draw_33 hl (by decide) rfl (fun ls hl => ?_)
    refine lv_aload_n hx hb dX3_draw_35 rfl (lv_at hl 1 rfl) ?_
    refine lv_iload hx hb dX3_draw_36 (lv_at hl 0 rfl) ?_
    refine lv_if_ne (tgt := 45) hx hb dX3_draw_38 (by decide) (fun c_3 => ?_) (fun c_3 => ?_)
    · exact absurd (by decide) c_3
    refine lv_iconst (v := 1) hx hb dX3_draw_41 (by decide) ?_
    refine lv_goto (tgt := 70) hx hb dX3_draw_42 (by decide) ?_
    refine mk_put hAt hK hJ hP hS 18 (by decide) (hts _ q808) rfl rfl (ty := .int) (by decide +kernel) rfl rfl (ad' := ad) (n' := n) (th' := 1) rfl rfl dX3_draw_70 (fun H locs hP hS => ?_)
    have hP : mP D ad σ nw az ir n 1 H := hP
    refine lv_aload_n hx hb dX3_draw_73 rfl (lv_at hl 1 rfl) ?_
    refine mk_get hAt hK hP 18 (by decide) (v := .int 1) rfl (hts _ q808) rfl dX3_draw_74 ?_
    refine lv_if_le (tgt := 82) hx hb dX3_draw_77 (by decide) (fun c_4 => ?_) (fun c_4 => ?_)
    · exact absurd c_4 (by decide)
    refine lv_iconst (v := 0) hx hb dX3_draw_80 (by decide) ?_
    exact hR _ _ _ _ _ dX3_draw_81 (hP) hS
  refine xk_ifeq (tgt := 32) hx hb dX3_draw_11 (by decide) (fun c_1 => ?_) (fun c_1 => ?_)
  · skip
    refine lv_iconst (v := 0) hx hb dX3_draw_32 (by decide) ?_
    exact J33_2 _ _ _   hP hS (lv_sub hl [0, 1, 2, 3, 4] rfl)
  refine lv_iload_n hx hb dX3_draw_14 rfl (lv_at hl 2 rfl) ?_
  refine lv_iconst (v := 0) hx hb dX3_draw_15 (by decide) ?_
  refine lv_aload_n hx hb dX3_draw_16 rfl (lv_at hl 0 rfl) ?_
  refine mk_get hAt hK hP 7 (by decide) (v := .int (nI (n 2))) rfl (hts _ q797) rfl dX3_draw_17 ?_
  refine lv_iconst (v := 1) hx hb dX3_draw_20 (by decide) ?_
  refine lv_isub hx hb dX3_draw_21 ?_
  refine mk_ciS hAt hK (P := mP D ad σ nw az ir n th) hP hA hS (As := [.int y, .int 0, .int ((nI (n 2)) - 1)]) (rest := []) (m_in l D A (mP D ad σ nw az ir n th) y 0 ((nI (n 2)) - 1)) (va_cwS 3 hts (lw_S q863 q864 q42 q865) rfl rfl rfl cdX3_in ⟨Nat.le_of_ble_eq_true rfl, Nat.le_of_ble_eq_true rfl⟩) rfl hl.1 rfl (Nat.le_of_ble_eq_true rfl) dX3_draw_22 ⟨Nat.le_refl _, Nat.le_refl _⟩ (fun r H locs hq hS => ?_)
  obtain ⟨rfl, hP⟩ := hq
  refine xk_ifeq (tgt := 32) hx hb dX3_draw_25 (by decide) (fun c_5 => ?_) (fun c_5 => ?_)
  · skip
    refine lv_iconst (v := 0) hx hb dX3_draw_32 (by decide) ?_
    exact J33_2 _ _ _   hP hS (lv_sub hl [0, 1, 2, 3, 4] rfl)
  exact absurd ⟨(mk_inC (by omega)).mp c_1, (mk_inC (by omega)).mp c_5⟩ hx0
set_option maxHeartbeats 4000000 in
theorem m_drawB (l : Launch) (D : xk_G) (A : Nat → Prop) (ad : Nat → Nat) (σ : Nat → Nat → Int32) (nw az ir : Nat → Int32) (n : Nat → Nat) (th : Int32) (hJ : mk_ok A ad) (h0m : n 0 ≤ 8) (h1m : n 1 ≤ 4) (h2m : n 2 ≤ 4) (h3m : n 3 ≤ 40) (a b : Nat) (ha : a < n 1) (hb2 : b < n 2) (z h : Int32) : Met l yX3_draw (ws_ yX3_draw cX3_draw 10 (some .int)) (xk_R 3 69) (xk_Pre D A (mP D ad σ nw az ir n th) [.ref (ad 0), .int (nI a), .int (nI b), .int z, .int h]) (xk_Pi A (fun r H => if mk_tDraw n z = 0 then (r = nI (n 3) ∧ mP D ad (mk_addS σ (n 3) (mk_lock σ a b z) (mk_kind σ (mk_near σ n (mk_lock σ a b z)) (mk_school σ (mk_near σ n (mk_lock σ a b z))) h) (-1)) (mk_add4 nw (n 3) (mk_school σ (mk_near σ n (mk_lock σ a b z))) 0) az ir (va_up n 3 (n 3 + 1)) (mk_tDraw n z) H) else mP D ad σ nw az ir n (mk_tDraw n z) H)) 0 0 A := by
  refine xk_startI (by decide +kernel) (Nat.le_of_ble_eq_true rfl) ?_
  intro p e s m args below meth c Q hAt hin hK hA hP hR ls hl
  obtain ⟨hx, hb, hml, hown, hts⟩ := id hAt
  have hl : lv_has ls 10 [(0, .ref (ad 0)), (1, .int (nI a)), (2, .int (nI b)), (3, .int z), (4, .int h)] := hl
  have hS : va_S A s.heap s.heap [] := va_S.rf
  refine lv_iload_n hx hb dX3_draw_0 rfl (lv_at hl 1 rfl) ?_
  refine lv_iconst (v := 0) hx hb dX3_draw_1 (by decide) ?_
  refine lv_aload_n hx hb dX3_draw_2 rfl (lv_at hl 0 rfl) ?_
  refine mk_get hAt hK hP 4 (by decide) (v := .int (nI (n 1))) rfl (hts _ q794) rfl dX3_draw_3 ?_
  refine lv_iconst (v := 1) hx hb dX3_draw_6 (by decide) ?_
  refine lv_isub hx hb dX3_draw_7 ?_
  refine mk_ciS hAt hK (P := mP D ad σ nw az ir n th) hP hA hS (As := [.int (nI a), .int 0, .int ((nI (n 1)) - 1)]) (rest := []) (m_in l D A (mP D ad σ nw az ir n th) (nI a) 0 ((nI (n 1)) - 1)) (va_cwS 3 hts (lw_S q863 q864 q42 q865) rfl rfl rfl cdX3_in ⟨Nat.le_of_ble_eq_true rfl, Nat.le_of_ble_eq_true rfl⟩) rfl hl.1 rfl (Nat.le_of_ble_eq_true rfl) dX3_draw_8 ⟨Nat.le_refl _, Nat.le_refl _⟩ (fun r H locs hq hS => ?_)
  obtain ⟨rfl, hP⟩ := hq
  refine xk_ifeq (tgt := 32) hx hb dX3_draw_11 (by decide) (fun c_1 => ?_) (fun c_1 => ?_)
  · skip
    exact absurd ((mk_inC (by omega)).mpr ⟨_, by assumption, rfl⟩) c_1
  refine lv_iload_n hx hb dX3_draw_14 rfl (lv_at hl 2 rfl) ?_
  refine lv_iconst (v := 0) hx hb dX3_draw_15 (by decide) ?_
  refine lv_aload_n hx hb dX3_draw_16 rfl (lv_at hl 0 rfl) ?_
  refine mk_get hAt hK hP 7 (by decide) (v := .int (nI (n 2))) rfl (hts _ q797) rfl dX3_draw_17 ?_
  refine lv_iconst (v := 1) hx hb dX3_draw_20 (by decide) ?_
  refine lv_isub hx hb dX3_draw_21 ?_
  refine mk_ciS hAt hK (P := mP D ad σ nw az ir n th) hP hA hS (As := [.int (nI b), .int 0, .int ((nI (n 2)) - 1)]) (rest := []) (m_in l D A (mP D ad σ nw az ir n th) (nI b) 0 ((nI (n 2)) - 1)) (va_cwS 3 hts (lw_S q863 q864 q42 q865) rfl rfl rfl cdX3_in ⟨Nat.le_of_ble_eq_true rfl, Nat.le_of_ble_eq_true rfl⟩) rfl hl.1 rfl (Nat.le_of_ble_eq_true rfl) dX3_draw_22 ⟨Nat.le_refl _, Nat.le_refl _⟩ (fun r H locs hq hS => ?_)
  obtain ⟨rfl, hP⟩ := hq
  refine xk_ifeq (tgt := 32) hx hb dX3_draw_25 (by decide) (fun c_2 => ?_) (fun c_2 => ?_)
  · skip
    exact absurd ((mk_inC (by omega)).mpr ⟨_, by assumption, rfl⟩) c_2
  refine lv_iconst (v := 1) hx hb dX3_draw_28 (by decide) ?_
  refine lv_goto (tgt := 33) hx hb dX3_draw_29 (by decide) ?_
  refine lv_istore (lv' := [(5, .int 1), (0, .ref (ad 0)), (1, .int (nI a)), (2, .int (nI b)), (3, .int z), (4, .int h)]) hx hb dX3_draw_33 hl (by decide) rfl (fun ls hl => ?_)
  refine lv_aload_n hx hb dX3_draw_35 rfl (lv_at hl 1 rfl) ?_
  refine lv_iload hx hb dX3_draw_36 (lv_at hl 0 rfl) ?_
  refine lv_if_ne (tgt := 45) hx hb dX3_draw_38 (by decide) (fun c_3 => ?_) (fun c_3 => ?_)
  · skip
    refine lv_iload_n hx hb dX3_draw_45 rfl (lv_at hl 4 rfl) ?_
    refine mk_ciS hAt hK (P := mP D ad σ nw az ir n th) hP hA hS (As := [.int z]) (rest := [.ref (ad 0)]) (m_isLetter l D A (mP D ad σ nw az ir n th) z) (va_cwS 1 hts (lw_S q860 q861 q42 q862) rfl rfl rfl cdX3_isLetter ⟨Nat.le_of_ble_eq_true rfl, Nat.le_of_ble_eq_true rfl⟩) rfl hl.1 rfl (Nat.le_of_ble_eq_true rfl) dX3_draw_46 ⟨Nat.le_refl _, Nat.le_refl _⟩ (fun r H locs hq hS => ?_)
    obtain ⟨rfl, hP⟩ := hq
    have J70_5 : ∀ (H : Heap) (locs : List Loc) (ls : Array Slot) (t0 : Int32), t0 = (if mk_in z 0 3 then (if n 3 = 40 then 3 else 0) else 2) → mP D ad σ nw az ir n th H → va_S A s.heap H locs → lv_has ls 10 [(5, .int 1), (0, .ref (ad 0)), (1, .int (nI a)), (2, .int (nI b)), (3, .int z), (4, .int h)] → W p l e (xk_R 3 69) s m args below meth c H locs 0 0 Q (F0 m 70 ls [.int t0, .ref (ad 0)]) := by
      intro H locs ls t0 et0 hP hS hl
      subst et0
      refine mk_put hAt hK hJ hP hS 18 (by decide) (hts _ q808) rfl rfl (ty := .int) (by decide +kernel) rfl rfl (ad' := ad) (n' := n) (th' := (if mk_in z 0 3 then (if n 3 = 40 then 3 else 0) else 2)) rfl rfl dX3_draw_70 (fun H locs hP hS => ?_)
      have hP : mP D ad σ nw az ir n (if mk_in z 0 3 then (if n 3 = 40 then 3 else 0) else 2) H := hP
      have hP : mP D ad σ nw az ir n (mk_tDraw n z) H := hP
      refine lv_aload_n hx hb dX3_draw_73 rfl (lv_at hl 1 rfl) ?_
      refine mk_get hAt hK hP 18 (by decide) (v := .int (mk_tDraw n z)) rfl (hts _ q808) rfl dX3_draw_74 ?_
      refine lv_if_le (tgt := 82) hx hb dX3_draw_77 (by decide) (fun c_6 => ?_) (fun c_6 => ?_)
      · skip
        have h0 := t4_0 c_6 (mk_tDraw_4 n z)
        have hf := (mk_tDraw_f h0).2
        refine lv_aload_n hx hb dX3_draw_82 rfl (lv_at hl 1 rfl) ?_
        refine mk_get hAt hK hP 5 (by decide) (v := .ref (ad 4)) rfl (hts _ q795) rfl dX3_draw_83 ?_
        refine lv_iload_n hx hb dX3_draw_86 rfl (lv_at hl 2 rfl) ?_
        refine mk_iald hAt hK hP 4 (f := σ 3) rfl a (by omega) (by decide) dX3_draw_87 ?_
        refine lv_iconst (v := 4) hx hb dX3_draw_88 (by decide) ?_
        refine lv_aload_n hx hb dX3_draw_89 rfl (lv_at hl 1 rfl) ?_
        refine mk_get hAt hK hP 6 (by decide) (v := .ref (ad 5)) rfl (hts _ q796) rfl dX3_draw_90 ?_
        refine lv_iload_n hx hb dX3_draw_93 rfl (lv_at hl 2 rfl) ?_
        refine mk_iald hAt hK hP 5 (f := σ 4) rfl a (by omega) (by decide) dX3_draw_94 ?_
        refine lv_imul hx hb dX3_draw_95 ?_
        refine lv_iadd hx hb dX3_draw_96 ?_
        refine lv_bipush (v := 16) hx hb dX3_draw_97 (by decide) ?_
        refine lv_aload_n hx hb dX3_draw_99 rfl (lv_at hl 1 rfl) ?_
        refine mk_get hAt hK hP 8 (by decide) (v := .ref (ad 6)) rfl (hts _ q798) rfl dX3_draw_100 ?_
        refine lv_iload_n hx hb dX3_draw_103 rfl (lv_at hl 3 rfl) ?_
        refine mk_iald hAt hK hP 6 (f := σ 5) rfl b (by omega) (by decide) dX3_draw_104 ?_
        refine lv_imul hx hb dX3_draw_105 ?_
        refine lv_iadd hx hb dX3_draw_106 ?_
        refine lv_bipush (v := 64) hx hb dX3_draw_107 (by decide) ?_
        refine lv_iload_n hx hb dX3_draw_109 rfl (lv_at hl 4 rfl) ?_
        refine lv_imul hx hb dX3_draw_110 ?_
        refine lv_iadd hx hb dX3_draw_111 ?_
        refine lv_istore (lv' := [(6, .int ((((σ 3 a) + (4 * (σ 4 a))) + (16 * (σ 5 b))) + (64 * z))), (5, .int 1), (0, .ref (ad 0)), (1, .int (nI a)), (2, .int (nI b)), (3, .int z), (4, .int h)]) hx hb dX3_draw_112 hl (by decide) rfl (fun ls hl => ?_)
        have hl : lv_has ls 10 [(6, .int (mk_lock σ a b z)), (5, .int 1), (0, .ref (ad 0)), (1, .int (nI a)), (2, .int (nI b)), (3, .int z), (4, .int h)] := hl
        refine lv_aload_n hx hb dX3_draw_114 rfl (lv_at hl 2 rfl) ?_
        refine lv_iload hx hb dX3_draw_115 (lv_at hl 0 rfl) ?_
        refine mk_ciV hAt hK hP hA hS (As := [.int (mk_lock σ a b z)]) (rest := []) (m_near l D A ad σ nw az ir n (mk_tDraw n z) hJ (by assumption) (mk_lock σ a b z)) (cwV 1 hts (lw_V q896 q898 qs15 q42 q899) rfl rfl rfl cdX3_near ⟨Nat.le_of_ble_eq_true rfl, Nat.le_of_ble_eq_true rfl⟩) rfl hl.1 rfl (Nat.le_of_ble_eq_true rfl) dX3_draw_117 ⟨Nat.le_refl _, Nat.le_refl _⟩ (fun r H locs hq hS => ?_)
        obtain ⟨rfl, hP⟩ := hq
        refine lv_istore (lv' := [(7, .int (mk_near σ n (mk_lock σ a b z))), (6, .int (mk_lock σ a b z)), (5, .int 1), (0, .ref (ad 0)), (1, .int (nI a)), (2, .int (nI b)), (3, .int z), (4, .int h)]) hx hb dX3_draw_120 hl (by decide) rfl (fun ls hl => ?_)
        refine lv_iload hx hb dX3_draw_122 (lv_at hl 0 rfl) ?_
        refine lv_aload_n hx hb dX3_draw_124 rfl (lv_at hl 3 rfl) ?_
        refine mk_get hAt hK hP 1 (by decide) (v := .ref (ad 2)) rfl (hts _ q791) rfl dX3_draw_125 ?_
        refine lv_iconst (v := 1) hx hb dX3_draw_128 (by decide) ?_
        refine mk_iald hAt hK hP 2 (f := σ 1) rfl 1 (by omega) (by decide) dX3_draw_129 ?_
        have J153_8 : ∀ (H : Heap) (locs : List Loc) (ls : Array Slot) (t0 : Int32), t0 = (if mk_near σ n (mk_lock σ a b z) < σ 1 1 then (if σ 1 2 ≤ mk_near σ n (mk_lock σ a b z) then 2 else 1) else 0) → mP D ad σ nw az ir n (mk_tDraw n z) H → va_S A s.heap H locs → lv_has ls 10 [(7, .int (mk_near σ n (mk_lock σ a b z))), (6, .int (mk_lock σ a b z)), (5, .int 1), (0, .ref (ad 0)), (1, .int (nI a)), (2, .int (nI b)), (3, .int z), (4, .int h)] → W p l e (xk_R 3 69) s m args below meth c H locs 0 0 Q (F0 m 153 ls [.int t0]) := by
          intro H locs ls t0 et0 hP hS hl
          subst et0
          refine lv_istore (lv' := [(8, .int (if mk_near σ n (mk_lock σ a b z) < σ 1 1 then (if σ 1 2 ≤ mk_near σ n (mk_lock σ a b z) then 2 else 1) else 0)), (7, .int (mk_near σ n (mk_lock σ a b z))), (6, .int (mk_lock σ a b z)), (5, .int 1), (0, .ref (ad 0)), (1, .int (nI a)), (2, .int (nI b)), (3, .int z), (4, .int h)]) hx hb dX3_draw_153 hl (by decide) rfl (fun ls hl => ?_)
          have hl : lv_has ls 10 [(8, .int (mk_school σ (mk_near σ n (mk_lock σ a b z)))), (7, .int (mk_near σ n (mk_lock σ a b z))), (6, .int (mk_lock σ a b z)), (5, .int 1), (0, .ref (ad 0)), (1, .int (nI a)), (2, .int (nI b)), (3, .int z), (4, .int h)] := hl
          refine lv_iload hx hb dX3_draw_155 (lv_at hl 8 rfl) ?_
          have J184_10 : ∀ (H : Heap) (locs : List Loc) (ls : Array Slot) (t0 : Int32), t0 = xk_b (¬ (h = 0) ∧ (mk_school σ (mk_near σ n (mk_lock σ a b z)) = 2 ∧ ¬ (mk_near σ n (mk_lock σ a b z) < ((σ 1 1) - 2)))) → mP D ad σ nw az ir n (mk_tDraw n z) H → va_S A s.heap H locs → lv_has ls 10 [(8, .int (mk_school σ (mk_near σ n (mk_lock σ a b z)))), (7, .int (mk_near σ n (mk_lock σ a b z))), (6, .int (mk_lock σ a b z)), (5, .int 1), (0, .ref (ad 0)), (1, .int (nI a)), (2, .int (nI b)), (3, .int z), (4, .int h)] → W p l e (xk_R 3 69) s m args below meth c H locs 0 0 Q (F0 m 184 ls [.int t0]) := by
            intro H locs ls t0 et0 hP hS hl
            subst et0
            refine lv_istore (lv' := [(9, .int (xk_b (¬ (h = 0) ∧ (mk_school σ (mk_near σ n (mk_lock σ a b z)) = 2 ∧ ¬ (mk_near σ n (mk_lock σ a b z) < ((σ 1 1) - 2)))))), (8, .int (mk_school σ (mk_near σ n (mk_lock σ a b z)))), (7, .int (mk_near σ n (mk_lock σ a b z))), (6, .int (mk_lock σ a b z)), (5, .int 1), (0, .ref (ad 0)), (1, .int (nI a)), (2, .int (nI b)), (3, .int z), (4, .int h)]) hx hb dX3_draw_184 hl (by decide) rfl (fun ls hl => ?_)
            have hl : lv_has ls 10 [(9, .int (xk_b (mk_calms σ (mk_near σ n (mk_lock σ a b z)) (mk_school σ (mk_near σ n (mk_lock σ a b z))) h))), (8, .int (mk_school σ (mk_near σ n (mk_lock σ a b z)))), (7, .int (mk_near σ n (mk_lock σ a b z))), (6, .int (mk_lock σ a b z)), (5, .int 1), (0, .ref (ad 0)), (1, .int (nI a)), (2, .int (nI b)), (3, .int z), (4, .int h)] := hl
            refine lv_aload_n hx hb dX3_draw_186 rfl (lv_at hl 5 rfl) ?_
            refine lv_iload hx hb dX3_draw_187 (lv_at hl 3 rfl) ?_
            refine lv_iload hx hb dX3_draw_189 (lv_at hl 0 rfl) ?_
            have J208_12 : ∀ (H : Heap) (locs : List Loc) (ls : Array Slot) (t0 : Int32), t0 = (if mk_calms σ (mk_near σ n (mk_lock σ a b z)) (mk_school σ (mk_near σ n (mk_lock σ a b z))) h then 2 else (if h = 0 then 0 else 1)) → mP D ad σ nw az ir n (mk_tDraw n z) H → va_S A s.heap H locs → lv_has ls 10 [(9, .int (xk_b (mk_calms σ (mk_near σ n (mk_lock σ a b z)) (mk_school σ (mk_near σ n (mk_lock σ a b z))) h))), (8, .int (mk_school σ (mk_near σ n (mk_lock σ a b z)))), (7, .int (mk_near σ n (mk_lock σ a b z))), (6, .int (mk_lock σ a b z)), (5, .int 1), (0, .ref (ad 0)), (1, .int (nI a)), (2, .int (nI b)), (3, .int z), (4, .int h)] → W p l e (xk_R 3 69) s m args below meth c H locs 0 0 Q (F0 m 208 ls [.int t0, .int (mk_lock σ a b z), .ref (ad 0)]) := by
              intro H locs ls t0 et0 hP hS hl
              subst et0
              refine xk_to (y := mk_kind σ (mk_near σ n (mk_lock σ a b z)) (mk_school σ (mk_near σ n (mk_lock σ a b z))) h) rfl ?_
              refine lv_iload hx hb dX3_draw_208 (lv_at hl 1 rfl) ?_
              refine lv_iconst (v := 0) hx hb dX3_draw_210 (by decide) ?_
              refine lv_iconst (v := (-1)) hx hb dX3_draw_211 (by decide) ?_
              refine mk_ciV hAt hK hP hA hS (As := [.int (mk_lock σ a b z), .int (mk_kind σ (mk_near σ n (mk_lock σ a b z)) (mk_school σ (mk_near σ n (mk_lock σ a b z))) h), .int (mk_school σ (mk_near σ n (mk_lock σ a b z))), .int 0, .int (-1)]) (rest := []) (m_adds l D A ad σ nw az ir n (mk_tDraw n z) hJ (by omega) (mk_lock σ a b z) (mk_kind σ (mk_near σ n (mk_lock σ a b z)) (mk_school σ (mk_near σ n (mk_lock σ a b z))) h) (mk_school σ (mk_near σ n (mk_lock σ a b z))) 0 (-1)) (cwV 5 hts (lw_V q912 q914 qs16 q42 q915) rfl rfl rfl cdX3_adds ⟨Nat.le_of_ble_eq_true rfl, Nat.le_of_ble_eq_true rfl⟩) rfl hl.1 rfl (Nat.le_of_ble_eq_true rfl) dX3_draw_212 ⟨Nat.le_refl _, Nat.le_refl _⟩ (fun r H locs hq hS => ?_)
              obtain ⟨rfl, hP⟩ := hq
              exact hR _ _ _ _ _ dX3_draw_215 (xk_ifp h0 ⟨rfl, hP⟩) hS
            refine xk_ifeq (tgt := 198) hx hb dX3_draw_191 (by decide) (fun c_11 => ?_) (fun c_11 => ?_)
            · skip
              refine lv_iload hx hb dX3_draw_198 (lv_at hl 9 rfl) ?_
              refine lv_if_eq (tgt := 207) hx hb dX3_draw_200 (by decide) (fun c_13 => ?_) (fun c_13 => ?_)
              · skip
                refine lv_iconst (v := 0) hx hb dX3_draw_207 (by decide) ?_
                exact J208_12 _ _ _ 0 (((if_pos c_13).symm).trans (if_neg c_11).symm) hP hS (lv_sub hl [0, 1, 2, 3, 4, 5, 6, 7, 8, 9] rfl)
              refine lv_iconst (v := 1) hx hb dX3_draw_203 (by decide) ?_
              refine lv_goto (tgt := 208) hx hb dX3_draw_204 (by decide) ?_
              exact J208_12 _ _ _ 1 (((if_neg c_13).symm).trans (if_neg c_11).symm) hP hS (lv_sub hl [0, 1, 2, 3, 4, 5, 6, 7, 8, 9] rfl)
            refine lv_iconst (v := 2) hx hb dX3_draw_194 (by decide) ?_
            refine lv_goto (tgt := 208) hx hb dX3_draw_195 (by decide) ?_
            exact J208_12 _ _ _ 2 ((if_pos c_11).symm) hP hS (lv_sub hl [0, 1, 2, 3, 4, 5, 6, 7, 8, 9] rfl)
          refine lv_if_eq (tgt := 183) hx hb dX3_draw_157 (by decide) (fun c_9 => ?_) (fun c_9 => ?_)
          · skip
            refine lv_iconst (v := 0) hx hb dX3_draw_183 (by decide) ?_
            exact J184_10 _ _ _ 0 ((if_neg (fun h => h.1 c_9)).symm) hP hS (lv_sub hl [0, 1, 2, 3, 4, 5, 6, 7, 8] rfl)
          refine lv_iload hx hb dX3_draw_160 (lv_at hl 0 rfl) ?_
          refine lv_iconst (v := 2) hx hb dX3_draw_162 (by decide) ?_
          refine lv_icmp_ne (tgt := 183) hx hb dX3_draw_163 (by decide) (fun c_14 => ?_) (fun c_14 => ?_)
          · skip
            refine lv_iconst (v := 0) hx hb dX3_draw_183 (by decide) ?_
            exact J184_10 _ _ _ 0 ((if_neg (fun h => (fun h => c_14 h.1) h.2)).symm) hP hS (lv_sub hl [0, 1, 2, 3, 4, 5, 6, 7, 8] rfl)
          refine lv_iload hx hb dX3_draw_166 (lv_at hl 1 rfl) ?_
          refine lv_aload_n hx hb dX3_draw_168 rfl (lv_at hl 4 rfl) ?_
          refine mk_get hAt hK hP 1 (by decide) (v := .ref (ad 2)) rfl (hts _ q791) rfl dX3_draw_169 ?_
          refine lv_iconst (v := 1) hx hb dX3_draw_172 (by decide) ?_
          refine mk_iald hAt hK hP 2 (f := σ 1) rfl 1 (by omega) (by decide) dX3_draw_173 ?_
          refine lv_iconst (v := 2) hx hb dX3_draw_174 (by decide) ?_
          refine lv_isub hx hb dX3_draw_175 ?_
          refine lv_icmp_lt (tgt := 183) hx hb dX3_draw_176 (by decide) (fun c_15 => ?_) (fun c_15 => ?_)
          · skip
            refine lv_iconst (v := 0) hx hb dX3_draw_183 (by decide) ?_
            exact J184_10 _ _ _ 0 ((if_neg (fun h => (fun h => (fun h => h c_15) h.2) h.2)).symm) hP hS (lv_sub hl [0, 1, 2, 3, 4, 5, 6, 7, 8] rfl)
          refine lv_iconst (v := 1) hx hb dX3_draw_179 (by decide) ?_
          refine lv_goto (tgt := 184) hx hb dX3_draw_180 (by decide) ?_
          exact J184_10 _ _ _ 1 ((if_pos ⟨c_9, ⟨c_14, c_15⟩⟩).symm) hP hS (lv_sub hl [0, 1, 2, 3, 4, 5, 6, 7, 8] rfl)
        refine lv_icmp_lt (tgt := 137) hx hb dX3_draw_130 (by decide) (fun c_7 => ?_) (fun c_7 => ?_)
        · skip
          refine lv_iload hx hb dX3_draw_137 (lv_at hl 0 rfl) ?_
          refine lv_aload_n hx hb dX3_draw_139 rfl (lv_at hl 3 rfl) ?_
          refine mk_get hAt hK hP 1 (by decide) (v := .ref (ad 2)) rfl (hts _ q791) rfl dX3_draw_140 ?_
          refine lv_iconst (v := 2) hx hb dX3_draw_143 (by decide) ?_
          refine mk_iald hAt hK hP 2 (f := σ 1) rfl 2 (by omega) (by decide) dX3_draw_144 ?_
          refine lv_icmp_ge (tgt := 152) hx hb dX3_draw_145 (by decide) (fun c_16 => ?_) (fun c_16 => ?_)
          · skip
            refine lv_iconst (v := 2) hx hb dX3_draw_152 (by decide) ?_
            exact J153_8 _ _ _ 2 (((if_pos c_16).symm).trans (if_pos c_7).symm) hP hS (lv_sub hl [0, 1, 2, 3, 4, 5, 6, 7] rfl)
          refine lv_iconst (v := 1) hx hb dX3_draw_148 (by decide) ?_
          refine lv_goto (tgt := 153) hx hb dX3_draw_149 (by decide) ?_
          exact J153_8 _ _ _ 1 (((if_neg c_16).symm).trans (if_pos c_7).symm) hP hS (lv_sub hl [0, 1, 2, 3, 4, 5, 6, 7] rfl)
        refine lv_iconst (v := 0) hx hb dX3_draw_133 (by decide) ?_
        refine lv_goto (tgt := 153) hx hb dX3_draw_134 (by decide) ?_
        exact J153_8 _ _ _ 0 ((if_neg c_7).symm) hP hS (lv_sub hl [0, 1, 2, 3, 4, 5, 6, 7] rfl)
      refine lv_iconst (v := 0) hx hb dX3_draw_80 (by decide) ?_
      exact hR _ _ _ _ _ dX3_draw_81 (xk_ifn (t4_1 c_6) hP) hS
    refine xk_ifne (tgt := 56) hx hb dX3_draw_49 (by decide) (fun c_4 => ?_) (fun c_4 => ?_)
    · skip
      refine lv_aload_n hx hb dX3_draw_56 rfl (lv_at hl 1 rfl) ?_
      refine mk_get hAt hK hP 9 (by decide) (v := .int (nI (n 3))) rfl (hts _ q799) rfl dX3_draw_57 ?_
      refine lv_bipush (v := 40) hx hb dX3_draw_60 (by decide) ?_
      refine mk_ne (tgt := 69) (a := n 3) (b := 40) hx hb (by omega) (by omega) dX3_draw_62 (by decide) (fun c_17 => ?_) (fun c_17 => ?_)
      · skip
        refine lv_iconst (v := 0) hx hb dX3_draw_69 (by decide) ?_
        exact J70_5 _ _ _ 0 (((if_neg c_17).symm).trans (if_pos c_4).symm) hP hS (lv_sub hl [0, 1, 2, 3, 4, 5] rfl)
      refine lv_iconst (v := 3) hx hb dX3_draw_65 (by decide) ?_
      refine lv_goto (tgt := 70) hx hb dX3_draw_66 (by decide) ?_
      exact J70_5 _ _ _ 3 (((if_pos c_17).symm).trans (if_pos c_4).symm) hP hS (lv_sub hl [0, 1, 2, 3, 4, 5] rfl)
    refine lv_iconst (v := 2) hx hb dX3_draw_52 (by decide) ?_
    refine lv_goto (tgt := 70) hx hb dX3_draw_53 (by decide) ?_
    exact J70_5 _ _ _ 2 ((if_neg c_4).symm) hP hS (lv_sub hl [0, 1, 2, 3, 4, 5] rfl)
  exact absurd c_3 (by decide)
set_option maxHeartbeats 4000000 in
theorem m_slipA (l : Launch) (D : xk_G) (A : Nat → Prop) (ad : Nat → Nat) (σ : Nat → Nat → Int32) (nw az ir : Nat → Int32) (n : Nat → Nat) (th : Int32) (hJ : mk_ok A ad) (h3m : n 3 ≤ 40) (x y z : Int32) (hx0 : ¬ ((∃ j, j < n 3 ∧ x = nI j) ∧ mk_in y 0 3)) : Met l yX3_slip (ws_ yX3_slip cX3_slip 7 (some .int)) (xk_R 1 22) (xk_Pre D A (mP D ad σ nw az ir n th) [.ref (ad 0), .int x, .int y, .int z]) (xk_Pi A (fun r H => mP D ad σ nw az ir n 1 H)) 0 0 A := by
  refine xk_startI (by decide +kernel) (Nat.le_of_ble_eq_true rfl) ?_
  intro p e s m args below meth c Q hAt hin hK hA hP hR ls hl
  obtain ⟨hx, hb, hml, hown, hts⟩ := id hAt
  have hl : lv_has ls 7 [(0, .ref (ad 0)), (1, .int x), (2, .int y), (3, .int z)] := hl
  have hS : va_S A s.heap s.heap [] := va_S.rf
  refine lv_iload_n hx hb dX3_slip_0 rfl (lv_at hl 1 rfl) ?_
  refine lv_iconst (v := 0) hx hb dX3_slip_1 (by decide) ?_
  refine lv_aload_n hx hb dX3_slip_2 rfl (lv_at hl 0 rfl) ?_
  refine mk_get hAt hK hP 9 (by decide) (v := .int (nI (n 3))) rfl (hts _ q799) rfl dX3_slip_3 ?_
  refine lv_iconst (v := 1) hx hb dX3_slip_6 (by decide) ?_
  refine lv_isub hx hb dX3_slip_7 ?_
  refine mk_ciS hAt hK (P := mP D ad σ nw az ir n th) hP hA hS (As := [.int x, .int 0, .int ((nI (n 3)) - 1)]) (rest := []) (m_in l D A (mP D ad σ nw az ir n th) x 0 ((nI (n 3)) - 1)) (va_cwS 3 hts (lw_S q863 q864 q42 q865) rfl rfl rfl cdX3_in ⟨Nat.le_of_ble_eq_true rfl, Nat.le_of_ble_eq_true rfl⟩) rfl hl.1 rfl (Nat.le_of_ble_eq_true rfl) dX3_slip_8 ⟨Nat.le_refl _, Nat.le_refl _⟩ (fun r H locs hq hS => ?_)
  obtain ⟨rfl, hP⟩ := hq
  have J28_2 : ∀ (H : Heap) (locs : List Loc) (ls : Array Slot), mP D ad σ nw az ir n th H → va_S A s.heap H locs → lv_has ls 7 [(0, .ref (ad 0)), (1, .int x), (2, .int y), (3, .int z)] → W p l e (xk_R 1 22) s m args below meth c H locs 0 0 Q (F0 m 28 ls [.int 0]) := by
    intro H locs ls   hP hS hl
    refine lv_istore (lv' := [(4, .int 0), (0, .ref (ad 0)), (1, .int x), (2, .int y), (3, .int z)]) hx hb dX3_slip_28 hl (by decide) rfl (fun ls hl => ?_)
    refine lv_aload_n hx hb dX3_slip_30 rfl (lv_at hl 1 rfl) ?_
    refine lv_iload hx hb dX3_slip_31 (lv_at hl 0 rfl) ?_
    refine lv_if_ne (tgt := 40) hx hb dX3_slip_33 (by decide) (fun c_3 => ?_) (fun c_3 => ?_)
    · exact absurd (by decide) c_3
    refine lv_iconst (v := 1) hx hb dX3_slip_36 (by decide) ?_
    refine lv_goto (tgt := 91) hx hb dX3_slip_37 (by decide) ?_
    refine mk_put hAt hK hJ hP hS 18 (by decide) (hts _ q808) rfl rfl (ty := .int) (by decide +kernel) rfl rfl (ad' := ad) (n' := n) (th' := 1) rfl rfl dX3_slip_91 (fun H locs hP hS => ?_)
    have hP : mP D ad σ nw az ir n 1 H := hP
    refine lv_aload_n hx hb dX3_slip_94 rfl (lv_at hl 1 rfl) ?_
    refine mk_get hAt hK hP 18 (by decide) (v := .int 1) rfl (hts _ q808) rfl dX3_slip_95 ?_
    refine lv_if_le (tgt := 103) hx hb dX3_slip_98 (by decide) (fun c_4 => ?_) (fun c_4 => ?_)
    · exact absurd c_4 (by decide)
    refine lv_iconst (v := 0) hx hb dX3_slip_101 (by decide) ?_
    exact hR _ _ _ _ _ dX3_slip_102 (hP) hS
  refine xk_ifeq (tgt := 27) hx hb dX3_slip_11 (by decide) (fun c_1 => ?_) (fun c_1 => ?_)
  · skip
    refine lv_iconst (v := 0) hx hb dX3_slip_27 (by decide) ?_
    exact J28_2 _ _ _   hP hS (lv_sub hl [0, 1, 2, 3] rfl)
  refine lv_iload_n hx hb dX3_slip_14 rfl (lv_at hl 2 rfl) ?_
  refine lv_iconst (v := 0) hx hb dX3_slip_15 (by decide) ?_
  refine lv_iconst (v := 3) hx hb dX3_slip_16 (by decide) ?_
  refine mk_ciS hAt hK (P := mP D ad σ nw az ir n th) hP hA hS (As := [.int y, .int 0, .int 3]) (rest := []) (m_in l D A (mP D ad σ nw az ir n th) y 0 3) (va_cwS 3 hts (lw_S q863 q864 q42 q865) rfl rfl rfl cdX3_in ⟨Nat.le_of_ble_eq_true rfl, Nat.le_of_ble_eq_true rfl⟩) rfl hl.1 rfl (Nat.le_of_ble_eq_true rfl) dX3_slip_17 ⟨Nat.le_refl _, Nat.le_refl _⟩ (fun r H locs hq hS => ?_)
  obtain ⟨rfl, hP⟩ := hq
  refine xk_ifeq (tgt := 27) hx hb dX3_slip_20 (by decide) (fun c_5 => ?_) (fun c_5 => ?_)
  · skip
    refine lv_iconst (v := 0) hx hb dX3_slip_27 (by decide) ?_
    exact J28_2 _ _ _   hP hS (lv_sub hl [0, 1, 2, 3] rfl)
  exact absurd ⟨(mk_inC (by omega)).mp c_1, c_5⟩ hx0
set_option maxHeartbeats 4000000 in
theorem m_slipB (l : Launch) (D : xk_G) (A : Nat → Prop) (ad : Nat → Nat) (σ : Nat → Nat → Int32) (nw az ir : Nat → Int32) (n : Nat → Nat) (th : Int32) (hJ : mk_ok A ad) (h0m : n 0 ≤ 8) (h3m : n 3 ≤ 40) (k q : Nat) (hk : k < n 3) (hq2 : q < 4) (z : Int32) : Met l yX3_slip (ws_ yX3_slip cX3_slip 7 (some .int)) (xk_R 3 69) (xk_Pre D A (mP D ad σ nw az ir n th) [.ref (ad 0), .int (nI k), .int (nI q), .int z]) (xk_Pi A (fun r H => if mk_tSlip σ nw n k q z = 0 then (r = nI (n 3) ∧ mP D ad (mk_addS σ (n 3) (mk_lockS σ k q z) (σ 7 k) (nI k)) (mk_add4 nw (n 3) (mk_stS σ (mk_near σ n (mk_lockS σ k q z))) (nw (80 + k))) az ir (va_up n 3 (n 3 + 1)) (mk_tSlip σ nw n k q z) H) else mP D ad σ nw az ir n (mk_tSlip σ nw n k q z) H)) 0 0 A := by
  refine xk_startI (by decide +kernel) (Nat.le_of_ble_eq_true rfl) ?_
  intro p e s m args below meth c Q hAt hin hK hA hP hR ls hl
  obtain ⟨hx, hb, hml, hown, hts⟩ := id hAt
  have hl : lv_has ls 7 [(0, .ref (ad 0)), (1, .int (nI k)), (2, .int (nI q)), (3, .int z)] := hl
  have hS : va_S A s.heap s.heap [] := va_S.rf
  refine lv_iload_n hx hb dX3_slip_0 rfl (lv_at hl 1 rfl) ?_
  refine lv_iconst (v := 0) hx hb dX3_slip_1 (by decide) ?_
  refine lv_aload_n hx hb dX3_slip_2 rfl (lv_at hl 0 rfl) ?_
  refine mk_get hAt hK hP 9 (by decide) (v := .int (nI (n 3))) rfl (hts _ q799) rfl dX3_slip_3 ?_
  refine lv_iconst (v := 1) hx hb dX3_slip_6 (by decide) ?_
  refine lv_isub hx hb dX3_slip_7 ?_
  refine mk_ciS hAt hK (P := mP D ad σ nw az ir n th) hP hA hS (As := [.int (nI k), .int 0, .int ((nI (n 3)) - 1)]) (rest := []) (m_in l D A (mP D ad σ nw az ir n th) (nI k) 0 ((nI (n 3)) - 1)) (va_cwS 3 hts (lw_S q863 q864 q42 q865) rfl rfl rfl cdX3_in ⟨Nat.le_of_ble_eq_true rfl, Nat.le_of_ble_eq_true rfl⟩) rfl hl.1 rfl (Nat.le_of_ble_eq_true rfl) dX3_slip_8 ⟨Nat.le_refl _, Nat.le_refl _⟩ (fun r H locs hq hS => ?_)
  obtain ⟨rfl, hP⟩ := hq
  refine xk_ifeq (tgt := 27) hx hb dX3_slip_11 (by decide) (fun c_1 => ?_) (fun c_1 => ?_)
  · skip
    first | exact absurd ((mk_inC (by omega)).mpr ⟨k, hk, rfl⟩) c_1 | exact absurd (mk_inP (k := 3) (by omega) (by omega)) c_1
  refine lv_iload_n hx hb dX3_slip_14 rfl (lv_at hl 2 rfl) ?_
  refine lv_iconst (v := 0) hx hb dX3_slip_15 (by decide) ?_
  refine lv_iconst (v := 3) hx hb dX3_slip_16 (by decide) ?_
  refine mk_ciS hAt hK (P := mP D ad σ nw az ir n th) hP hA hS (As := [.int (nI q), .int 0, .int 3]) (rest := []) (m_in l D A (mP D ad σ nw az ir n th) (nI q) 0 3) (va_cwS 3 hts (lw_S q863 q864 q42 q865) rfl rfl rfl cdX3_in ⟨Nat.le_of_ble_eq_true rfl, Nat.le_of_ble_eq_true rfl⟩) rfl hl.1 rfl (Nat.le_of_ble_eq_true rfl) dX3_slip_17 ⟨Nat.le_refl _, Nat.le_refl _⟩ (fun r H locs hq hS => ?_)
  obtain ⟨rfl, hP⟩ := hq
  refine xk_ifeq (tgt := 27) hx hb dX3_slip_20 (by decide) (fun c_2 => ?_) (fun c_2 => ?_)
  · skip
    first | exact absurd ((mk_inC (by omega)).mpr ⟨k, hk, rfl⟩) c_2 | exact absurd (mk_inP (k := 3) (by omega) (by omega)) c_2
  refine lv_iconst (v := 1) hx hb dX3_slip_23 (by decide) ?_
  refine lv_goto (tgt := 28) hx hb dX3_slip_24 (by decide) ?_
  refine lv_istore (lv' := [(4, .int 1), (0, .ref (ad 0)), (1, .int (nI k)), (2, .int (nI q)), (3, .int z)]) hx hb dX3_slip_28 hl (by decide) rfl (fun ls hl => ?_)
  refine lv_aload_n hx hb dX3_slip_30 rfl (lv_at hl 1 rfl) ?_
  refine lv_iload hx hb dX3_slip_31 (lv_at hl 0 rfl) ?_
  refine lv_if_ne (tgt := 40) hx hb dX3_slip_33 (by decide) (fun c_3 => ?_) (fun c_3 => ?_)
  · skip
    refine lv_iload_n hx hb dX3_slip_40 rfl (lv_at hl 4 rfl) ?_
    refine mk_ciS hAt hK (P := mP D ad σ nw az ir n th) hP hA hS (As := [.int z]) (rest := [.ref (ad 0)]) (m_isLetter l D A (mP D ad σ nw az ir n th) z) (va_cwS 1 hts (lw_S q860 q861 q42 q862) rfl rfl rfl cdX3_isLetter ⟨Nat.le_of_ble_eq_true rfl, Nat.le_of_ble_eq_true rfl⟩) rfl hl.1 rfl (Nat.le_of_ble_eq_true rfl) dX3_slip_41 ⟨Nat.le_refl _, Nat.le_refl _⟩ (fun r H locs hq hS => ?_)
    obtain ⟨rfl, hP⟩ := hq
    have J91_5 : ∀ (H : Heap) (locs : List Loc) (ls : Array Slot) (t0 : Int32), t0 = (if mk_in z 0 3 then (if nI (mk_ln (σ 6 k) q) = z then 2 else (if nw k = 3 then (if n 3 = 40 then 3 else 0) else 3)) else 2) → mP D ad σ nw az ir n th H → va_S A s.heap H locs → lv_has ls 7 [(4, .int 1), (0, .ref (ad 0)), (1, .int (nI k)), (2, .int (nI q)), (3, .int z)] → W p l e (xk_R 3 69) s m args below meth c H locs 0 0 Q (F0 m 91 ls [.int t0, .ref (ad 0)]) := by
      intro H locs ls t0 et0 hP hS hl
      subst et0
      refine mk_put hAt hK hJ hP hS 18 (by decide) (hts _ q808) rfl rfl (ty := .int) (by decide +kernel) rfl rfl (ad' := ad) (n' := n) (th' := (if mk_in z 0 3 then (if nI (mk_ln (σ 6 k) q) = z then 2 else (if nw k = 3 then (if n 3 = 40 then 3 else 0) else 3)) else 2)) rfl rfl dX3_slip_91 (fun H locs hP hS => ?_)
      have hP : mP D ad σ nw az ir n (if mk_in z 0 3 then (if nI (mk_ln (σ 6 k) q) = z then 2 else (if nw k = 3 then (if n 3 = 40 then 3 else 0) else 3)) else 2) H := hP
      have hP : mP D ad σ nw az ir n (mk_tSlip σ nw n k q z) H := hP
      refine lv_aload_n hx hb dX3_slip_94 rfl (lv_at hl 1 rfl) ?_
      refine mk_get hAt hK hP 18 (by decide) (v := .int (mk_tSlip σ nw n k q z)) rfl (hts _ q808) rfl dX3_slip_95 ?_
      refine lv_if_le (tgt := 103) hx hb dX3_slip_98 (by decide) (fun c_6 => ?_) (fun c_6 => ?_)
      · skip
        have h0 := t4_0 c_6 (mk_tSlip_4 σ nw n k q z)
        have hf := (mk_tSlip_f h0).2.2.2
        refine lv_iconst (v := 1) hx hb dX3_slip_103 (by decide) ?_
        refine lv_iconst (v := 2) hx hb dX3_slip_104 (by decide) ?_
        refine lv_iload_n hx hb dX3_slip_105 rfl (lv_at hl 3 rfl) ?_
        refine lv_imul hx hb dX3_slip_106 ?_
        refine xk_to (y := nI (2 * q)) (pk_mul 2 q) ?_
        refine lv_ishl hx hb dX3_slip_107 ?_
        refine lv_istore (lv' := [(5, .int (1 <<< ((nI (2 * q)) &&& 31))), (4, .int 1), (0, .ref (ad 0)), (1, .int (nI k)), (2, .int (nI q)), (3, .int z)]) hx hb dX3_slip_108 hl (by decide) rfl (fun ls hl => ?_)
        refine lv_aload_n hx hb dX3_slip_110 rfl (lv_at hl 2 rfl) ?_
        refine mk_get hAt hK hP 10 (by decide) (v := .ref (ad 7)) rfl (hts _ q800) rfl dX3_slip_111 ?_
        refine lv_iload_n hx hb dX3_slip_114 rfl (lv_at hl 3 rfl) ?_
        refine mk_iald hAt hK hP 7 (f := σ 6) rfl k (by omega) (by decide) dX3_slip_115 ?_
        refine lv_iload_n hx hb dX3_slip_116 rfl (lv_at hl 5 rfl) ?_
        refine lv_aload_n hx hb dX3_slip_117 rfl (lv_at hl 2 rfl) ?_
        refine mk_get hAt hK hP 10 (by decide) (v := .ref (ad 7)) rfl (hts _ q800) rfl dX3_slip_118 ?_
        refine lv_iload_n hx hb dX3_slip_121 rfl (lv_at hl 3 rfl) ?_
        refine mk_iald hAt hK hP 7 (f := σ 6) rfl k (by omega) (by decide) dX3_slip_122 ?_
        refine lv_iload_n hx hb dX3_slip_123 rfl (lv_at hl 4 rfl) ?_
        refine mk_ciS hAt hK (P := mP D ad σ nw az ir n (mk_tSlip σ nw n k q z)) hP hA hS (As := [.int (σ 6 k), .int (nI q)]) (rest := [.int z, .int (σ 6 k)]) (m_letter l D A (mP D ad σ nw az ir n (mk_tSlip σ nw n k q z)) (σ 6 k) q) (va_cwS 2 hts (lw_S q877 q878 q42 q879) rfl rfl rfl cdX3_letter ⟨Nat.le_of_ble_eq_true rfl, Nat.le_of_ble_eq_true rfl⟩) rfl hl.1 rfl (Nat.le_of_ble_eq_true rfl) dX3_slip_124 ⟨Nat.le_refl _, Nat.le_refl _⟩ (fun r H locs hq hS => ?_)
        obtain ⟨rfl, hP⟩ := hq
        refine lv_isub hx hb dX3_slip_127 ?_
        refine lv_iload hx hb dX3_slip_128 (lv_at hl 0 rfl) ?_
        refine lv_imul hx hb dX3_slip_130 ?_
        refine lv_iadd hx hb dX3_slip_131 ?_
        refine lv_istore (lv' := [(6, .int ((σ 6 k) + ((z - (nI (mk_ln (σ 6 k) q))) * (1 <<< ((nI (2 * q)) &&& 31))))), (5, .int (1 <<< ((nI (2 * q)) &&& 31))), (4, .int 1), (0, .ref (ad 0)), (1, .int (nI k)), (2, .int (nI q)), (3, .int z)]) hx hb dX3_slip_132 hl (by decide) rfl (fun ls hl => ?_)
        have hl : lv_has ls 7 [(6, .int (mk_lockS σ k q z)), (5, .int (1 <<< ((nI (2 * q)) &&& 31))), (4, .int 1), (0, .ref (ad 0)), (1, .int (nI k)), (2, .int (nI q)), (3, .int z)] := hl
        refine lv_aload_n hx hb dX3_slip_134 rfl (lv_at hl 3 rfl) ?_
        refine lv_iload hx hb dX3_slip_135 (lv_at hl 0 rfl) ?_
        refine lv_aload_n hx hb dX3_slip_137 rfl (lv_at hl 3 rfl) ?_
        refine mk_get hAt hK hP 11 (by decide) (v := .ref (ad 8)) rfl (hts _ q801) rfl dX3_slip_138 ?_
        refine lv_iload_n hx hb dX3_slip_141 rfl (lv_at hl 4 rfl) ?_
        refine mk_iald hAt hK hP 8 (f := σ 7) rfl k (by omega) (by decide) dX3_slip_142 ?_
        refine lv_aload_n hx hb dX3_slip_143 rfl (lv_at hl 3 rfl) ?_
        refine lv_iload hx hb dX3_slip_144 (lv_at hl 0 rfl) ?_
        refine mk_ciV hAt hK hP hA hS (As := [.int (mk_lockS σ k q z)]) (rest := [.int (σ 7 k), .int (mk_lockS σ k q z), .ref (ad 0)]) (m_near l D A ad σ nw az ir n (mk_tSlip σ nw n k q z) hJ (by assumption) (mk_lockS σ k q z)) (cwV 1 hts (lw_V q896 q898 qs15 q42 q899) rfl rfl rfl cdX3_near ⟨Nat.le_of_ble_eq_true rfl, Nat.le_of_ble_eq_true rfl⟩) rfl hl.1 rfl (Nat.le_of_ble_eq_true rfl) dX3_slip_146 ⟨Nat.le_refl _, Nat.le_refl _⟩ (fun r H locs hq hS => ?_)
        obtain ⟨rfl, hP⟩ := hq
        refine lv_aload_n hx hb dX3_slip_149 rfl (lv_at hl 3 rfl) ?_
        refine mk_get hAt hK hP 1 (by decide) (v := .ref (ad 2)) rfl (hts _ q791) rfl dX3_slip_150 ?_
        refine lv_iconst (v := 1) hx hb dX3_slip_153 (by decide) ?_
        refine mk_iald hAt hK hP 2 (f := σ 1) rfl 1 (by omega) (by decide) dX3_slip_154 ?_
        have J163_8 : ∀ (H : Heap) (locs : List Loc) (ls : Array Slot) (t0 : Int32), t0 = (if mk_near σ n (mk_lockS σ k q z) < σ 1 1 then 3 else 0) → mP D ad σ nw az ir n (mk_tSlip σ nw n k q z) H → va_S A s.heap H locs → lv_has ls 7 [(6, .int (mk_lockS σ k q z)), (5, .int (1 <<< ((nI (2 * q)) &&& 31))), (4, .int 1), (0, .ref (ad 0)), (1, .int (nI k)), (2, .int (nI q)), (3, .int z)] → W p l e (xk_R 3 69) s m args below meth c H locs 0 0 Q (F0 m 163 ls [.int t0, .int (σ 7 k), .int (mk_lockS σ k q z), .ref (ad 0)]) := by
          intro H locs ls t0 et0 hP hS hl
          subst et0
          refine xk_to (y := mk_stS σ (mk_near σ n (mk_lockS σ k q z))) rfl ?_
          refine lv_aload_n hx hb dX3_slip_163 rfl (lv_at hl 3 rfl) ?_
          refine mk_get hAt hK hP 16 (by decide) (v := .ref (ad 12)) rfl (hts _ q806) rfl dX3_slip_164 ?_
          refine lv_bipush (v := 80) hx hb dX3_slip_167 (by decide) ?_
          refine lv_iload_n hx hb dX3_slip_169 rfl (lv_at hl 4 rfl) ?_
          refine lv_iadd hx hb dX3_slip_170 ?_
          refine xk_to (y := nI (80 + k)) (nI_add 80 k) ?_
          refine mk_iald hAt hK hP 12 (f := nw) rfl (80 + k) (by omega) (by decide) dX3_slip_171 ?_
          refine lv_iload_n hx hb dX3_slip_172 rfl (lv_at hl 4 rfl) ?_
          refine mk_ciV hAt hK hP hA hS (As := [.int (mk_lockS σ k q z), .int (σ 7 k), .int (mk_stS σ (mk_near σ n (mk_lockS σ k q z))), .int (nw (80 + k)), .int (nI k)]) (rest := []) (m_adds l D A ad σ nw az ir n (mk_tSlip σ nw n k q z) hJ (by omega) (mk_lockS σ k q z) (σ 7 k) (mk_stS σ (mk_near σ n (mk_lockS σ k q z))) (nw (80 + k)) (nI k)) (cwV 5 hts (lw_V q912 q914 qs16 q42 q915) rfl rfl rfl cdX3_adds ⟨Nat.le_of_ble_eq_true rfl, Nat.le_of_ble_eq_true rfl⟩) rfl hl.1 rfl (Nat.le_of_ble_eq_true rfl) dX3_slip_173 ⟨Nat.le_refl _, Nat.le_refl _⟩ (fun r H locs hq hS => ?_)
          obtain ⟨rfl, hP⟩ := hq
          exact hR _ _ _ _ _ dX3_slip_176 (xk_ifp h0 ⟨rfl, hP⟩) hS
        refine lv_icmp_lt (tgt := 162) hx hb dX3_slip_155 (by decide) (fun c_7 => ?_) (fun c_7 => ?_)
        · skip
          refine lv_iconst (v := 3) hx hb dX3_slip_162 (by decide) ?_
          exact J163_8 _ _ _ 3 ((if_pos c_7).symm) hP hS (lv_sub hl [0, 1, 2, 3, 4, 5, 6] rfl)
        refine lv_iconst (v := 0) hx hb dX3_slip_158 (by decide) ?_
        refine lv_goto (tgt := 163) hx hb dX3_slip_159 (by decide) ?_
        exact J163_8 _ _ _ 0 ((if_neg c_7).symm) hP hS (lv_sub hl [0, 1, 2, 3, 4, 5, 6] rfl)
      refine lv_iconst (v := 0) hx hb dX3_slip_101 (by decide) ?_
      exact hR _ _ _ _ _ dX3_slip_102 (xk_ifn (t4_1 c_6) hP) hS
    refine xk_ifeq (tgt := 61) hx hb dX3_slip_44 (by decide) (fun c_4 => ?_) (fun c_4 => ?_)
    · skip
      refine lv_iconst (v := 2) hx hb dX3_slip_61 (by decide) ?_
      refine lv_goto (tgt := 91) hx hb dX3_slip_62 (by decide) ?_
      exact J91_5 _ _ _ 2 ((if_neg c_4).symm) hP hS (lv_sub hl [0, 1, 2, 3, 4] rfl)
    refine lv_aload_n hx hb dX3_slip_47 rfl (lv_at hl 1 rfl) ?_
    refine mk_get hAt hK hP 10 (by decide) (v := .ref (ad 7)) rfl (hts _ q800) rfl dX3_slip_48 ?_
    refine lv_iload_n hx hb dX3_slip_51 rfl (lv_at hl 2 rfl) ?_
    refine mk_iald hAt hK hP 7 (f := σ 6) rfl k (by omega) (by decide) dX3_slip_52 ?_
    refine lv_iload_n hx hb dX3_slip_53 rfl (lv_at hl 3 rfl) ?_
    refine mk_ciS hAt hK (P := mP D ad σ nw az ir n th) hP hA hS (As := [.int (σ 6 k), .int (nI q)]) (rest := [.ref (ad 0)]) (m_letter l D A (mP D ad σ nw az ir n th) (σ 6 k) q) (va_cwS 2 hts (lw_S q877 q878 q42 q879) rfl rfl rfl cdX3_letter ⟨Nat.le_of_ble_eq_true rfl, Nat.le_of_ble_eq_true rfl⟩) rfl hl.1 rfl (Nat.le_of_ble_eq_true rfl) dX3_slip_54 ⟨Nat.le_refl _, Nat.le_refl _⟩ (fun r H locs hq hS => ?_)
    obtain ⟨rfl, hP⟩ := hq
    refine lv_iload_n hx hb dX3_slip_57 rfl (lv_at hl 4 rfl) ?_
    refine lv_icmp_ne (tgt := 65) hx hb dX3_slip_58 (by decide) (fun c_9 => ?_) (fun c_9 => ?_)
    · skip
      refine lv_aload_n hx hb dX3_slip_65 rfl (lv_at hl 1 rfl) ?_
      refine mk_get hAt hK hP 16 (by decide) (v := .ref (ad 12)) rfl (hts _ q806) rfl dX3_slip_66 ?_
      refine lv_iconst (v := 0) hx hb dX3_slip_69 (by decide) ?_
      refine lv_iload_n hx hb dX3_slip_70 rfl (lv_at hl 2 rfl) ?_
      refine lv_iadd hx hb dX3_slip_71 ?_
      refine xk_to (y := nI k) (xk_0 k) ?_
      refine mk_iald hAt hK hP 12 (f := nw) rfl k (by omega) (by decide) dX3_slip_72 ?_
      refine lv_iconst (v := 3) hx hb dX3_slip_73 (by decide) ?_
      refine lv_icmp_ne (tgt := 86) hx hb dX3_slip_74 (by decide) (fun c_10 => ?_) (fun c_10 => ?_)
      · skip
        refine lv_iconst (v := 3) hx hb dX3_slip_86 (by decide) ?_
        refine lv_goto (tgt := 91) hx hb dX3_slip_87 (by decide) ?_
        exact J91_5 _ _ _ 3 ((((if_neg c_10).symm).trans (if_neg c_9).symm).trans (if_pos c_4).symm) hP hS (lv_sub hl [0, 1, 2, 3, 4] rfl)
      refine lv_aload_n hx hb dX3_slip_77 rfl (lv_at hl 1 rfl) ?_
      refine mk_get hAt hK hP 9 (by decide) (v := .int (nI (n 3))) rfl (hts _ q799) rfl dX3_slip_78 ?_
      refine lv_bipush (v := 40) hx hb dX3_slip_81 (by decide) ?_
      refine mk_ne (tgt := 90) (a := n 3) (b := 40) hx hb (by omega) (by omega) dX3_slip_83 (by decide) (fun c_11 => ?_) (fun c_11 => ?_)
      · skip
        refine lv_iconst (v := 0) hx hb dX3_slip_90 (by decide) ?_
        exact J91_5 _ _ _ 0 (((((if_neg c_11).symm).trans (if_pos c_10).symm).trans (if_neg c_9).symm).trans (if_pos c_4).symm) hP hS (lv_sub hl [0, 1, 2, 3, 4] rfl)
      refine lv_iconst (v := 3) hx hb dX3_slip_86 (by decide) ?_
      refine lv_goto (tgt := 91) hx hb dX3_slip_87 (by decide) ?_
      exact J91_5 _ _ _ 3 (((((if_pos c_11).symm).trans (if_pos c_10).symm).trans (if_neg c_9).symm).trans (if_pos c_4).symm) hP hS (lv_sub hl [0, 1, 2, 3, 4] rfl)
    refine lv_iconst (v := 2) hx hb dX3_slip_61 (by decide) ?_
    refine lv_goto (tgt := 91) hx hb dX3_slip_62 (by decide) ?_
    exact J91_5 _ _ _ 2 (((if_pos c_9).symm).trans (if_pos c_4).symm) hP hS (lv_sub hl [0, 1, 2, 3, 4] rfl)
  exact absurd c_3 (by decide)
set_option maxHeartbeats 4000000 in
theorem m_cellIsA (l : Launch) (D : xk_G) (A : Nat → Prop) (ad : Nat → Nat) (σ : Nat → Nat → Int32) (nw az ir : Nat → Int32) (n : Nat → Nat) (th : Int32) (hJ : mk_ok A ad) (h3m : n 3 ≤ 40) (x y : Int32) (hx0 : ¬ ∃ j, j < n 3 ∧ x = nI j) : Met l yX3_cellIs (ws_ yX3_cellIs cX3_cellIs 3 (some .int)) (xk_R 1 22) (xk_Pre D A (mP D ad σ nw az ir n th) [.ref (ad 0), .int x, .int y]) (xk_Pi A (fun r H => mP D ad σ nw az ir n 1 H)) 0 0 A := by
  refine xk_startI (by decide +kernel) (Nat.le_of_ble_eq_true rfl) ?_
  intro p e s m args below meth c Q hAt hin hK hA hP hR ls hl
  obtain ⟨hx, hb, hml, hown, hts⟩ := id hAt
  have hl : lv_has ls 3 [(0, .ref (ad 0)), (1, .int x), (2, .int y)] := hl
  have hS : va_S A s.heap s.heap [] := va_S.rf
  refine lv_aload_n hx hb dX3_cellIs_0 rfl (lv_at hl 0 rfl) ?_
  refine lv_iload_n hx hb dX3_cellIs_1 rfl (lv_at hl 1 rfl) ?_
  refine lv_iconst (v := 0) hx hb dX3_cellIs_2 (by decide) ?_
  refine lv_aload_n hx hb dX3_cellIs_3 rfl (lv_at hl 0 rfl) ?_
  refine mk_get hAt hK hP 9 (by decide) (v := .int (nI (n 3))) rfl (hts _ q799) rfl dX3_cellIs_4 ?_
  refine lv_iconst (v := 1) hx hb dX3_cellIs_7 (by decide) ?_
  refine lv_isub hx hb dX3_cellIs_8 ?_
  refine mk_ciS hAt hK (P := mP D ad σ nw az ir n th) hP hA hS (As := [.int x, .int 0, .int ((nI (n 3)) - 1)]) (rest := [.ref (ad 0)]) (m_in l D A (mP D ad σ nw az ir n th) x 0 ((nI (n 3)) - 1)) (va_cwS 3 hts (lw_S q863 q864 q42 q865) rfl rfl rfl cdX3_in ⟨Nat.le_of_ble_eq_true rfl, Nat.le_of_ble_eq_true rfl⟩) rfl hl.1 rfl (Nat.le_of_ble_eq_true rfl) dX3_cellIs_9 ⟨Nat.le_refl _, Nat.le_refl _⟩ (fun r H locs hq hS => ?_)
  obtain ⟨rfl, hP⟩ := hq
  refine xk_ifne (tgt := 19) hx hb dX3_cellIs_12 (by decide) (fun c_1 => ?_) (fun c_1 => ?_)
  · skip
    exact absurd ((mk_inC (by omega)).mp c_1) hx0
  refine lv_iconst (v := 1) hx hb dX3_cellIs_15 (by decide) ?_
  refine lv_goto (tgt := 33) hx hb dX3_cellIs_16 (by decide) ?_
  refine mk_put hAt hK hJ hP hS 18 (by decide) (hts _ q808) rfl rfl (ty := .int) (by decide +kernel) rfl rfl (ad' := ad) (n' := n) (th' := 1) rfl rfl dX3_cellIs_33 (fun H locs hP hS => ?_)
  have hP : mP D ad σ nw az ir n 1 H := hP
  refine lv_aload_n hx hb dX3_cellIs_36 rfl (lv_at hl 0 rfl) ?_
  refine mk_get hAt hK hP 18 (by decide) (v := .int 1) rfl (hts _ q808) rfl dX3_cellIs_37 ?_
  refine lv_if_le (tgt := 45) hx hb dX3_cellIs_40 (by decide) (fun c_2 => ?_) (fun c_2 => ?_)
  · exact absurd c_2 (by decide)
  refine lv_iconst (v := 0) hx hb dX3_cellIs_43 (by decide) ?_
  exact hR _ _ _ _ _ dX3_cellIs_44 (hP) hS
set_option maxHeartbeats 4000000 in
theorem m_cellIsB (l : Launch) (D : xk_G) (A : Nat → Prop) (ad : Nat → Nat) (σ : Nat → Nat → Int32) (nw az ir : Nat → Int32) (n : Nat → Nat) (th : Int32) (hJ : mk_ok A ad) (h3m : n 3 ≤ 40) (k : Nat) (hk : k < n 3) (y : Int32) : Met l yX3_cellIs (ws_ yX3_cellIs cX3_cellIs 3 (some .int)) (xk_R 1 22) (xk_Pre D A (mP D ad σ nw az ir n th) [.ref (ad 0), .int (nI k), .int y]) (xk_Pi A (fun r H => if mk_tCell y = 0 then ((∃ j, j ≤ 5 ∧ y = nI j ∧ r = mk_cellIs σ nw k j) ∧ mP D ad σ nw az ir n (mk_tCell y) H) else mP D ad σ nw az ir n (mk_tCell y) H)) 0 0 A := by
  refine xk_startI (by decide +kernel) (Nat.le_of_ble_eq_true rfl) ?_
  intro p e s m args below meth c Q hAt hin hK hA hP hR ls hl
  obtain ⟨hx, hb, hml, hown, hts⟩ := id hAt
  have hl : lv_has ls 3 [(0, .ref (ad 0)), (1, .int (nI k)), (2, .int y)] := hl
  have hS : va_S A s.heap s.heap [] := va_S.rf
  refine lv_aload_n hx hb dX3_cellIs_0 rfl (lv_at hl 0 rfl) ?_
  refine lv_iload_n hx hb dX3_cellIs_1 rfl (lv_at hl 1 rfl) ?_
  refine lv_iconst (v := 0) hx hb dX3_cellIs_2 (by decide) ?_
  refine lv_aload_n hx hb dX3_cellIs_3 rfl (lv_at hl 0 rfl) ?_
  refine mk_get hAt hK hP 9 (by decide) (v := .int (nI (n 3))) rfl (hts _ q799) rfl dX3_cellIs_4 ?_
  refine lv_iconst (v := 1) hx hb dX3_cellIs_7 (by decide) ?_
  refine lv_isub hx hb dX3_cellIs_8 ?_
  refine mk_ciS hAt hK (P := mP D ad σ nw az ir n th) hP hA hS (As := [.int (nI k), .int 0, .int ((nI (n 3)) - 1)]) (rest := [.ref (ad 0)]) (m_in l D A (mP D ad σ nw az ir n th) (nI k) 0 ((nI (n 3)) - 1)) (va_cwS 3 hts (lw_S q863 q864 q42 q865) rfl rfl rfl cdX3_in ⟨Nat.le_of_ble_eq_true rfl, Nat.le_of_ble_eq_true rfl⟩) rfl hl.1 rfl (Nat.le_of_ble_eq_true rfl) dX3_cellIs_9 ⟨Nat.le_refl _, Nat.le_refl _⟩ (fun r H locs hq hS => ?_)
  obtain ⟨rfl, hP⟩ := hq
  have J33_2 : ∀ (H : Heap) (locs : List Loc) (ls : Array Slot) (t0 : Int32), t0 = (if mk_in y 0 5 then 0 else 2) → mP D ad σ nw az ir n th H → va_S A s.heap H locs → lv_has ls 3 [(0, .ref (ad 0)), (1, .int (nI k)), (2, .int y)] → W p l e (xk_R 1 22) s m args below meth c H locs 0 0 Q (F0 m 33 ls [.int t0, .ref (ad 0)]) := by
    intro H locs ls t0 et0 hP hS hl
    subst et0
    refine mk_put hAt hK hJ hP hS 18 (by decide) (hts _ q808) rfl rfl (ty := .int) (by decide +kernel) rfl rfl (ad' := ad) (n' := n) (th' := (if mk_in y 0 5 then 0 else 2)) rfl rfl dX3_cellIs_33 (fun H locs hP hS => ?_)
    have hP : mP D ad σ nw az ir n (if mk_in y 0 5 then 0 else 2) H := hP
    have hP : mP D ad σ nw az ir n (mk_tCell y) H := hP
    refine lv_aload_n hx hb dX3_cellIs_36 rfl (lv_at hl 0 rfl) ?_
    refine mk_get hAt hK hP 18 (by decide) (v := .int (mk_tCell y)) rfl (hts _ q808) rfl dX3_cellIs_37 ?_
    refine lv_if_le (tgt := 45) hx hb dX3_cellIs_40 (by decide) (fun c_3 => ?_) (fun c_3 => ?_)
    · skip
      have h0 := t4_0 c_3 (mk_tCell_4 y)
      have hf := mk_tCell_f h0
      obtain ⟨ey, ey2, ey3⟩ := mk_inN (k := 5) (by omega) (by decide) hf
      obtain ⟨j, hj, rfl⟩ : ∃ j : Nat, j ≤ 5 ∧ y = nI j := ⟨_, ey2, ey⟩
      refine lv_iload_n hx hb dX3_cellIs_45 rfl (lv_at hl 2 rfl) ?_
      rcases (show j = 0 ∨ j = 1 ∨ j = 2 ∨ j = 3 ∨ j = 4 ∨ j = 5 by omega) with rfl | rfl | rfl | rfl | rfl | rfl
      · refine lv_tableIn (x := nI 0) (off := 34) (tgt := 80) hx hb dX3_cellIs_46 (by decide) (by decide) rfl (by decide) ?_
        refine lv_aload_n hx hb dX3_cellIs_80 rfl (lv_at hl 0 rfl) ?_
        refine mk_get hAt hK hP 10 (by decide) (v := .ref (ad 7)) rfl (hts _ q800) rfl dX3_cellIs_81 ?_
        refine lv_iload_n hx hb dX3_cellIs_84 rfl (lv_at hl 1 rfl) ?_
        refine mk_iald hAt hK hP 7 (f := σ 6) rfl k (by omega) (by decide) dX3_cellIs_85 ?_
        exact hR _ _ _ _ _ dX3_cellIs_86 (xk_ifp h0 ⟨⟨0, by omega, rfl, rfl⟩, hP⟩) hS
      · refine lv_tableIn (x := nI 1) (off := 41) (tgt := 87) hx hb dX3_cellIs_46 (by decide) (by decide) rfl (by decide) ?_
        refine lv_aload_n hx hb dX3_cellIs_87 rfl (lv_at hl 0 rfl) ?_
        refine mk_get hAt hK hP 11 (by decide) (v := .ref (ad 8)) rfl (hts _ q801) rfl dX3_cellIs_88 ?_
        refine lv_iload_n hx hb dX3_cellIs_91 rfl (lv_at hl 1 rfl) ?_
        refine mk_iald hAt hK hP 8 (f := σ 7) rfl k (by omega) (by decide) dX3_cellIs_92 ?_
        exact hR _ _ _ _ _ dX3_cellIs_93 (xk_ifp h0 ⟨⟨1, by omega, rfl, rfl⟩, hP⟩) hS
      · refine lv_tableIn (x := nI 2) (off := 48) (tgt := 94) hx hb dX3_cellIs_46 (by decide) (by decide) rfl (by decide) ?_
        refine lv_aload_n hx hb dX3_cellIs_94 rfl (lv_at hl 0 rfl) ?_
        refine mk_get hAt hK hP 16 (by decide) (v := .ref (ad 12)) rfl (hts _ q806) rfl dX3_cellIs_95 ?_
        refine lv_iconst (v := 0) hx hb dX3_cellIs_98 (by decide) ?_
        refine lv_iload_n hx hb dX3_cellIs_99 rfl (lv_at hl 1 rfl) ?_
        refine lv_iadd hx hb dX3_cellIs_100 ?_
        refine xk_to (y := nI k) (xk_0 k) ?_
        refine mk_iald hAt hK hP 12 (f := nw) rfl k (by omega) (by decide) dX3_cellIs_101 ?_
        exact hR _ _ _ _ _ dX3_cellIs_102 (xk_ifp h0 ⟨⟨2, by omega, rfl, rfl⟩, hP⟩) hS
      · refine lv_tableIn (x := nI 3) (off := 57) (tgt := 103) hx hb dX3_cellIs_46 (by decide) (by decide) rfl (by decide) ?_
        refine lv_aload_n hx hb dX3_cellIs_103 rfl (lv_at hl 0 rfl) ?_
        refine mk_get hAt hK hP 16 (by decide) (v := .ref (ad 12)) rfl (hts _ q806) rfl dX3_cellIs_104 ?_
        refine lv_bipush (v := 40) hx hb dX3_cellIs_107 (by decide) ?_
        refine lv_iload_n hx hb dX3_cellIs_109 rfl (lv_at hl 1 rfl) ?_
        refine lv_iadd hx hb dX3_cellIs_110 ?_
        refine xk_to (y := nI (40 + k)) (nI_add 40 k) ?_
        refine mk_iald hAt hK hP 12 (f := nw) rfl (40 + k) (by omega) (by decide) dX3_cellIs_111 ?_
        exact hR _ _ _ _ _ dX3_cellIs_112 (xk_ifp h0 ⟨⟨3, by omega, rfl, rfl⟩, hP⟩) hS
      · refine lv_tableIn (x := nI 4) (off := 67) (tgt := 113) hx hb dX3_cellIs_46 (by decide) (by decide) rfl (by decide) ?_
        refine lv_aload_n hx hb dX3_cellIs_113 rfl (lv_at hl 0 rfl) ?_
        refine mk_get hAt hK hP 16 (by decide) (v := .ref (ad 12)) rfl (hts _ q806) rfl dX3_cellIs_114 ?_
        refine lv_bipush (v := 80) hx hb dX3_cellIs_117 (by decide) ?_
        refine lv_iload_n hx hb dX3_cellIs_119 rfl (lv_at hl 1 rfl) ?_
        refine lv_iadd hx hb dX3_cellIs_120 ?_
        refine xk_to (y := nI (80 + k)) (nI_add 80 k) ?_
        refine mk_iald hAt hK hP 12 (f := nw) rfl (80 + k) (by omega) (by decide) dX3_cellIs_121 ?_
        exact hR _ _ _ _ _ dX3_cellIs_122 (xk_ifp h0 ⟨⟨4, by omega, rfl, rfl⟩, hP⟩) hS
      · refine lv_tableOut (x := nI 5) (tgt := 123) hx hb dX3_cellIs_46 (Or.inr (by decide)) (by decide) ?_
        refine lv_aload_n hx hb dX3_cellIs_123 rfl (lv_at hl 0 rfl) ?_
        refine mk_get hAt hK hP 12 (by decide) (v := .ref (ad 9)) rfl (hts _ q802) rfl dX3_cellIs_124 ?_
        refine lv_iload_n hx hb dX3_cellIs_127 rfl (lv_at hl 1 rfl) ?_
        refine mk_iald hAt hK hP 9 (f := σ 8) rfl k (by omega) (by decide) dX3_cellIs_128 ?_
        exact hR _ _ _ _ _ dX3_cellIs_129 (xk_ifp h0 ⟨⟨5, by omega, rfl, rfl⟩, hP⟩) hS
    refine lv_iconst (v := 0) hx hb dX3_cellIs_43 (by decide) ?_
    exact hR _ _ _ _ _ dX3_cellIs_44 (xk_ifn (t4_1 c_3) hP) hS
  refine xk_ifne (tgt := 19) hx hb dX3_cellIs_12 (by decide) (fun c_1 => ?_) (fun c_1 => ?_)
  · skip
    refine lv_iload_n hx hb dX3_cellIs_19 rfl (lv_at hl 2 rfl) ?_
    refine lv_iconst (v := 0) hx hb dX3_cellIs_20 (by decide) ?_
    refine lv_iconst (v := 5) hx hb dX3_cellIs_21 (by decide) ?_
    refine mk_ciS hAt hK (P := mP D ad σ nw az ir n th) hP hA hS (As := [.int y, .int 0, .int 5]) (rest := [.ref (ad 0)]) (m_in l D A (mP D ad σ nw az ir n th) y 0 5) (va_cwS 3 hts (lw_S q863 q864 q42 q865) rfl rfl rfl cdX3_in ⟨Nat.le_of_ble_eq_true rfl, Nat.le_of_ble_eq_true rfl⟩) rfl hl.1 rfl (Nat.le_of_ble_eq_true rfl) dX3_cellIs_22 ⟨Nat.le_refl _, Nat.le_refl _⟩ (fun r H locs hq hS => ?_)
    obtain ⟨rfl, hP⟩ := hq
    refine xk_ifne (tgt := 32) hx hb dX3_cellIs_25 (by decide) (fun c_4 => ?_) (fun c_4 => ?_)
    · skip
      refine lv_iconst (v := 0) hx hb dX3_cellIs_32 (by decide) ?_
      exact J33_2 _ _ _ 0 ((if_pos c_4).symm) hP hS (lv_sub hl [0, 1, 2] rfl)
    refine lv_iconst (v := 2) hx hb dX3_cellIs_28 (by decide) ?_
    refine lv_goto (tgt := 33) hx hb dX3_cellIs_29 (by decide) ?_
    exact J33_2 _ _ _ 2 ((if_neg c_4).symm) hP hS (lv_sub hl [0, 1, 2] rfl)
  exact absurd ((mk_inC (by omega)).mpr ⟨k, hk, rfl⟩) c_1
set_option maxHeartbeats 4000000 in
theorem m_invade (l : Launch) (D : xk_G) (A : Nat → Prop) (ad : Nat → Nat) (σ : Nat → Nat → Int32) (nw az ir : Nat → Int32) (n : Nat → Nat) (th : Int32) (hJ : mk_ok A ad) (h4m : n 4 ≤ 8) (x y z : Int32) : Met l yX3_invade (ws_ yX3_invade cX3_invade 4 (some .int)) (xk_R 2 42) (xk_Pre D A (mP D ad σ nw az ir n th) [.ref (ad 0), .int x, .int y, .int z]) (xk_Pi A (fun r H => if mk_tInv n x y z = 0 then (r = nI (n 4) ∧ mP D ad (va_up (va_up σ 9 (upd (σ 9) (n 4) x)) 10 (upd (σ 10) (n 4) z)) (upd (upd (upd nw (120 + n 4) y) (128 + n 4) (-1)) (136 + n 4) y) az ir (va_up n 4 (n 4 + 1)) (mk_tInv n x y z) H) else mP D ad σ nw az ir n (mk_tInv n x y z) H)) 0 0 A := by
  refine xk_startI (by decide +kernel) (Nat.le_of_ble_eq_true rfl) ?_
  intro p e s m args below meth c Q hAt hin hK hA hP hR ls hl
  obtain ⟨hx, hb, hml, hown, hts⟩ := id hAt
  have hl : lv_has ls 4 [(0, .ref (ad 0)), (1, .int x), (2, .int y), (3, .int z)] := hl
  have hS : va_S A s.heap s.heap [] := va_S.rf
  refine lv_aload_n hx hb dX3_invade_0 rfl (lv_at hl 0 rfl) ?_
  refine lv_iload_n hx hb dX3_invade_1 rfl (lv_at hl 1 rfl) ?_
  refine mk_ciS hAt hK (P := mP D ad σ nw az ir n th) hP hA hS (As := [.int x]) (rest := [.ref (ad 0)]) (m_isWord l D A (mP D ad σ nw az ir n th) x) (va_cwS 1 hts (lw_S q870 q871 q42 q872) rfl rfl rfl cdX3_isWord ⟨Nat.le_of_ble_eq_true rfl, Nat.le_of_ble_eq_true rfl⟩) rfl hl.1 rfl (Nat.le_of_ble_eq_true rfl) dX3_invade_2 ⟨Nat.le_refl _, Nat.le_refl _⟩ (fun r H locs hq hS => ?_)
  obtain ⟨rfl, hP⟩ := hq
  have J47_2 : ∀ (H : Heap) (locs : List Loc) (ls : Array Slot) (t0 : Int32), t0 = (if mk_in x 0 255 then (if mk_in y 1 999 then (if mk_in z (-1) 9 then (if n 4 = 8 then 2 else 0) else 1) else 1) else 1) → mP D ad σ nw az ir n th H → va_S A s.heap H locs → lv_has ls 4 [(0, .ref (ad 0)), (1, .int x), (2, .int y), (3, .int z)] → W p l e (xk_R 2 42) s m args below meth c H locs 0 0 Q (F0 m 47 ls [.int t0, .ref (ad 0)]) := by
    intro H locs ls t0 et0 hP hS hl
    subst et0
    refine mk_put hAt hK hJ hP hS 18 (by decide) (hts _ q808) rfl rfl (ty := .int) (by decide +kernel) rfl rfl (ad' := ad) (n' := n) (th' := (if mk_in x 0 255 then (if mk_in y 1 999 then (if mk_in z (-1) 9 then (if n 4 = 8 then 2 else 0) else 1) else 1) else 1)) rfl rfl dX3_invade_47 (fun H locs hP hS => ?_)
    have hP : mP D ad σ nw az ir n (if mk_in x 0 255 then (if mk_in y 1 999 then (if mk_in z (-1) 9 then (if n 4 = 8 then 2 else 0) else 1) else 1) else 1) H := hP
    have hP : mP D ad σ nw az ir n (mk_tInv n x y z) H := hP
    refine lv_aload_n hx hb dX3_invade_50 rfl (lv_at hl 0 rfl) ?_
    refine mk_get hAt hK hP 18 (by decide) (v := .int (mk_tInv n x y z)) rfl (hts _ q808) rfl dX3_invade_51 ?_
    refine lv_if_le (tgt := 59) hx hb dX3_invade_54 (by decide) (fun c_3 => ?_) (fun c_3 => ?_)
    · skip
      have h0 := t4_0 c_3 (mk_tInv_4 n x y z)
      have hf := (mk_tInv_f h0).2.2.2
      refine lv_aload_n hx hb dX3_invade_59 rfl (lv_at hl 0 rfl) ?_
      refine mk_get hAt hK hP 14 (by decide) (v := .ref (ad 10)) rfl (hts _ q804) rfl dX3_invade_60 ?_
      refine lv_aload_n hx hb dX3_invade_63 rfl (lv_at hl 0 rfl) ?_
      refine mk_get hAt hK hP 13 (by decide) (v := .int (nI (n 4))) rfl (hts _ q803) rfl dX3_invade_64 ?_
      refine lv_iload_n hx hb dX3_invade_67 rfl (lv_at hl 1 rfl) ?_
      refine mk_iast hAt hK hJ hP hS 10 (f := σ 9) rfl (n 4) (by omega) (by decide) (σ' := va_up σ 9 (upd (σ 9) (n 4) x)) (nw' := nw) (az' := az) rfl dX3_invade_68 (fun H locs hP hS => ?_)
      refine lv_aload_n hx hb dX3_invade_69 rfl (lv_at hl 0 rfl) ?_
      refine mk_get hAt hK hP 15 (by decide) (v := .ref (ad 11)) rfl (hts _ q805) rfl dX3_invade_70 ?_
      refine lv_aload_n hx hb dX3_invade_73 rfl (lv_at hl 0 rfl) ?_
      refine mk_get hAt hK hP 13 (by decide) (v := .int (nI (n 4))) rfl (hts _ q803) rfl dX3_invade_74 ?_
      refine lv_iload_n hx hb dX3_invade_77 rfl (lv_at hl 3 rfl) ?_
      refine mk_iast hAt hK hJ hP hS 11 (f := σ 10) rfl (n 4) (by omega) (by decide) (σ' := va_up (va_up σ 9 (upd (σ 9) (n 4) x)) 10 (upd (σ 10) (n 4) z)) (nw' := nw) (az' := az) rfl dX3_invade_78 (fun H locs hP hS => ?_)
      refine lv_aload_n hx hb dX3_invade_79 rfl (lv_at hl 0 rfl) ?_
      refine mk_get hAt hK hP 16 (by decide) (v := .ref (ad 12)) rfl (hts _ q806) rfl dX3_invade_80 ?_
      refine lv_bipush (v := 120) hx hb dX3_invade_83 (by decide) ?_
      refine lv_aload_n hx hb dX3_invade_85 rfl (lv_at hl 0 rfl) ?_
      refine mk_get hAt hK hP 13 (by decide) (v := .int (nI (n 4))) rfl (hts _ q803) rfl dX3_invade_86 ?_
      refine lv_iadd hx hb dX3_invade_89 ?_
      refine xk_to (y := nI (120 + n 4)) (nI_add 120 (n 4)) ?_
      refine lv_iload_n hx hb dX3_invade_90 rfl (lv_at hl 2 rfl) ?_
      refine mk_iast hAt hK hJ hP hS 12 (f := nw) rfl (120 + n 4) (by omega) (by decide) (σ' := va_up (va_up σ 9 (upd (σ 9) (n 4) x)) 10 (upd (σ 10) (n 4) z)) (nw' := upd nw (120 + n 4) y) (az' := az) rfl dX3_invade_91 (fun H locs hP hS => ?_)
      refine lv_aload_n hx hb dX3_invade_92 rfl (lv_at hl 0 rfl) ?_
      refine mk_get hAt hK hP 16 (by decide) (v := .ref (ad 12)) rfl (hts _ q806) rfl dX3_invade_93 ?_
      refine lv_sipush (v := 128) hx hb dX3_invade_96 (by decide) ?_
      refine lv_aload_n hx hb dX3_invade_99 rfl (lv_at hl 0 rfl) ?_
      refine mk_get hAt hK hP 13 (by decide) (v := .int (nI (n 4))) rfl (hts _ q803) rfl dX3_invade_100 ?_
      refine lv_iadd hx hb dX3_invade_103 ?_
      refine xk_to (y := nI (128 + n 4)) (nI_add 128 (n 4)) ?_
      refine lv_iconst (v := (-1)) hx hb dX3_invade_104 (by decide) ?_
      refine mk_iast hAt hK hJ hP hS 12 (f := upd nw (120 + n 4) y) rfl (128 + n 4) (by omega) (by decide) (σ' := va_up (va_up σ 9 (upd (σ 9) (n 4) x)) 10 (upd (σ 10) (n 4) z)) (nw' := upd (upd nw (120 + n 4) y) (128 + n 4) (-1)) (az' := az) rfl dX3_invade_105 (fun H locs hP hS => ?_)
      refine lv_aload_n hx hb dX3_invade_106 rfl (lv_at hl 0 rfl) ?_
      refine mk_get hAt hK hP 16 (by decide) (v := .ref (ad 12)) rfl (hts _ q806) rfl dX3_invade_107 ?_
      refine lv_sipush (v := 136) hx hb dX3_invade_110 (by decide) ?_
      refine lv_aload_n hx hb dX3_invade_113 rfl (lv_at hl 0 rfl) ?_
      refine mk_get hAt hK hP 13 (by decide) (v := .int (nI (n 4))) rfl (hts _ q803) rfl dX3_invade_114 ?_
      refine lv_iadd hx hb dX3_invade_117 ?_
      refine xk_to (y := nI (136 + n 4)) (nI_add 136 (n 4)) ?_
      refine lv_iload_n hx hb dX3_invade_118 rfl (lv_at hl 2 rfl) ?_
      refine mk_iast hAt hK hJ hP hS 12 (f := upd (upd nw (120 + n 4) y) (128 + n 4) (-1)) rfl (136 + n 4) (by omega) (by decide) (σ' := va_up (va_up σ 9 (upd (σ 9) (n 4) x)) 10 (upd (σ 10) (n 4) z)) (nw' := upd (upd (upd nw (120 + n 4) y) (128 + n 4) (-1)) (136 + n 4) y) (az' := az) rfl dX3_invade_119 (fun H locs hP hS => ?_)
      refine lv_aload_n hx hb dX3_invade_120 rfl (lv_at hl 0 rfl) ?_
      refine lv_dup hx hb dX3_invade_121 rfl ?_
      refine mk_get hAt hK hP 13 (by decide) (v := .int (nI (n 4))) rfl (hts _ q803) rfl dX3_invade_122 ?_
      refine lv_iconst (v := 1) hx hb dX3_invade_125 (by decide) ?_
      refine lv_iadd hx hb dX3_invade_126 ?_
      refine xk_to (y := nI (n 4 + 1)) (nI_add (n 4) 1) ?_
      refine mk_put hAt hK hJ hP hS 13 (by decide) (hts _ q803) rfl rfl (ty := .int) (by decide +kernel) rfl rfl (ad' := ad) (n' := va_up n 4 (n 4 + 1)) (th' := mk_tInv n x y z) rfl rfl dX3_invade_127 (fun H locs hP hS => ?_)
      have hP : mP D ad (va_up (va_up σ 9 (upd (σ 9) (n 4) x)) 10 (upd (σ 10) (n 4) z)) (upd (upd (upd nw (120 + n 4) y) (128 + n 4) (-1)) (136 + n 4) y) az ir (va_up n 4 (n 4 + 1)) (mk_tInv n x y z) H := hP
      refine lv_aload_n hx hb dX3_invade_130 rfl (lv_at hl 0 rfl) ?_
      refine mk_get hAt hK hP 13 (by decide) (v := .int (nI (n 4 + 1))) rfl (hts _ q803) rfl dX3_invade_131 ?_
      refine lv_iconst (v := 1) hx hb dX3_invade_134 (by decide) ?_
      refine lv_isub hx hb dX3_invade_135 ?_
      refine xk_to (y := nI (n 4)) (nI_pred (n 4)) ?_
      exact hR _ _ _ _ _ dX3_invade_136 (xk_ifp h0 ⟨rfl, hP⟩) hS
    refine lv_iconst (v := 0) hx hb dX3_invade_57 (by decide) ?_
    exact hR _ _ _ _ _ dX3_invade_58 (xk_ifn (t4_1 c_3) hP) hS
  refine xk_ifeq (tgt := 29) hx hb dX3_invade_5 (by decide) (fun c_1 => ?_) (fun c_1 => ?_)
  · skip
    refine lv_iconst (v := 1) hx hb dX3_invade_29 (by decide) ?_
    refine lv_goto (tgt := 47) hx hb dX3_invade_30 (by decide) ?_
    exact J47_2 _ _ _ 1 ((if_neg c_1).symm) hP hS (lv_sub hl [0, 1, 2, 3] rfl)
  refine lv_iload_n hx hb dX3_invade_8 rfl (lv_at hl 2 rfl) ?_
  refine lv_iconst (v := 1) hx hb dX3_invade_9 (by decide) ?_
  refine lv_sipush (v := 999) hx hb dX3_invade_10 (by decide) ?_
  refine mk_ciS hAt hK (P := mP D ad σ nw az ir n th) hP hA hS (As := [.int y, .int 1, .int 999]) (rest := [.ref (ad 0)]) (m_in l D A (mP D ad σ nw az ir n th) y 1 999) (va_cwS 3 hts (lw_S q863 q864 q42 q865) rfl rfl rfl cdX3_in ⟨Nat.le_of_ble_eq_true rfl, Nat.le_of_ble_eq_true rfl⟩) rfl hl.1 rfl (Nat.le_of_ble_eq_true rfl) dX3_invade_13 ⟨Nat.le_refl _, Nat.le_refl _⟩ (fun r H locs hq hS => ?_)
  obtain ⟨rfl, hP⟩ := hq
  refine xk_ifeq (tgt := 29) hx hb dX3_invade_16 (by decide) (fun c_4 => ?_) (fun c_4 => ?_)
  · skip
    refine lv_iconst (v := 1) hx hb dX3_invade_29 (by decide) ?_
    refine lv_goto (tgt := 47) hx hb dX3_invade_30 (by decide) ?_
    exact J47_2 _ _ _ 1 (((if_neg c_4).symm).trans (if_pos c_1).symm) hP hS (lv_sub hl [0, 1, 2, 3] rfl)
  refine lv_iload_n hx hb dX3_invade_19 rfl (lv_at hl 3 rfl) ?_
  refine lv_iconst (v := (-1)) hx hb dX3_invade_20 (by decide) ?_
  refine lv_bipush (v := 9) hx hb dX3_invade_21 (by decide) ?_
  refine mk_ciS hAt hK (P := mP D ad σ nw az ir n th) hP hA hS (As := [.int z, .int (-1), .int 9]) (rest := [.ref (ad 0)]) (m_in l D A (mP D ad σ nw az ir n th) z (-1) 9) (va_cwS 3 hts (lw_S q863 q864 q42 q865) rfl rfl rfl cdX3_in ⟨Nat.le_of_ble_eq_true rfl, Nat.le_of_ble_eq_true rfl⟩) rfl hl.1 rfl (Nat.le_of_ble_eq_true rfl) dX3_invade_23 ⟨Nat.le_refl _, Nat.le_refl _⟩ (fun r H locs hq hS => ?_)
  obtain ⟨rfl, hP⟩ := hq
  refine xk_ifne (tgt := 33) hx hb dX3_invade_26 (by decide) (fun c_5 => ?_) (fun c_5 => ?_)
  · skip
    refine lv_aload_n hx hb dX3_invade_33 rfl (lv_at hl 0 rfl) ?_
    refine mk_get hAt hK hP 13 (by decide) (v := .int (nI (n 4))) rfl (hts _ q803) rfl dX3_invade_34 ?_
    refine lv_bipush (v := 8) hx hb dX3_invade_37 (by decide) ?_
    refine mk_ne (tgt := 46) (a := n 4) (b := 8) hx hb (by omega) (by omega) dX3_invade_39 (by decide) (fun c_6 => ?_) (fun c_6 => ?_)
    · skip
      refine lv_iconst (v := 0) hx hb dX3_invade_46 (by decide) ?_
      exact J47_2 _ _ _ 0 (((((if_neg c_6).symm).trans (if_pos c_5).symm).trans (if_pos c_4).symm).trans (if_pos c_1).symm) hP hS (lv_sub hl [0, 1, 2, 3] rfl)
    refine lv_iconst (v := 2) hx hb dX3_invade_42 (by decide) ?_
    refine lv_goto (tgt := 47) hx hb dX3_invade_43 (by decide) ?_
    exact J47_2 _ _ _ 2 (((((if_pos c_6).symm).trans (if_pos c_5).symm).trans (if_pos c_4).symm).trans (if_pos c_1).symm) hP hS (lv_sub hl [0, 1, 2, 3] rfl)
  refine lv_iconst (v := 1) hx hb dX3_invade_29 (by decide) ?_
  refine lv_goto (tgt := 47) hx hb dX3_invade_30 (by decide) ?_
  exact J47_2 _ _ _ 1 ((((if_neg c_5).symm).trans (if_pos c_4).symm).trans (if_pos c_1).symm) hP hS (lv_sub hl [0, 1, 2, 3] rfl)
set_option maxHeartbeats 4000000 in
theorem m_changeA (l : Launch) (D : xk_G) (A : Nat → Prop) (ad : Nat → Nat) (σ : Nat → Nat → Int32) (nw az ir : Nat → Int32) (n : Nat → Nat) (th : Int32) (hJ : mk_ok A ad) (h4m : n 4 ≤ 8) (x y : Int32) (hx0 : ¬ ∃ j, j < n 4 ∧ x = nI j) : Met l yX3_change (ws_ yX3_change cX3_change 4 (some .int)) (xk_R 1 22) (xk_Pre D A (mP D ad σ nw az ir n th) [.ref (ad 0), .int x, .int y]) (xk_Pi A (fun r H => mP D ad σ nw az ir n 1 H)) 0 0 A := by
  refine xk_startI (by decide +kernel) (Nat.le_of_ble_eq_true rfl) ?_
  intro p e s m args below meth c Q hAt hin hK hA hP hR ls hl
  obtain ⟨hx, hb, hml, hown, hts⟩ := id hAt
  have hl : lv_has ls 4 [(0, .ref (ad 0)), (1, .int x), (2, .int y)] := hl
  have hS : va_S A s.heap s.heap [] := va_S.rf
  refine lv_aload_n hx hb dX3_change_0 rfl (lv_at hl 0 rfl) ?_
  refine lv_iload_n hx hb dX3_change_1 rfl (lv_at hl 1 rfl) ?_
  refine lv_iconst (v := 0) hx hb dX3_change_2 (by decide) ?_
  refine lv_aload_n hx hb dX3_change_3 rfl (lv_at hl 0 rfl) ?_
  refine mk_get hAt hK hP 13 (by decide) (v := .int (nI (n 4))) rfl (hts _ q803) rfl dX3_change_4 ?_
  refine lv_iconst (v := 1) hx hb dX3_change_7 (by decide) ?_
  refine lv_isub hx hb dX3_change_8 ?_
  refine mk_ciS hAt hK (P := mP D ad σ nw az ir n th) hP hA hS (As := [.int x, .int 0, .int ((nI (n 4)) - 1)]) (rest := [.ref (ad 0)]) (m_in l D A (mP D ad σ nw az ir n th) x 0 ((nI (n 4)) - 1)) (va_cwS 3 hts (lw_S q863 q864 q42 q865) rfl rfl rfl cdX3_in ⟨Nat.le_of_ble_eq_true rfl, Nat.le_of_ble_eq_true rfl⟩) rfl hl.1 rfl (Nat.le_of_ble_eq_true rfl) dX3_change_9 ⟨Nat.le_refl _, Nat.le_refl _⟩ (fun r H locs hq hS => ?_)
  obtain ⟨rfl, hP⟩ := hq
  refine xk_ifne (tgt := 19) hx hb dX3_change_12 (by decide) (fun c_1 => ?_) (fun c_1 => ?_)
  · skip
    exact absurd ((mk_inC (by omega)).mp c_1) hx0
  refine lv_iconst (v := 1) hx hb dX3_change_15 (by decide) ?_
  refine lv_goto (tgt := 43) hx hb dX3_change_16 (by decide) ?_
  refine mk_put hAt hK hJ hP hS 18 (by decide) (hts _ q808) rfl rfl (ty := .int) (by decide +kernel) rfl rfl (ad' := ad) (n' := n) (th' := 1) rfl rfl dX3_change_43 (fun H locs hP hS => ?_)
  have hP : mP D ad σ nw az ir n 1 H := hP
  refine lv_aload_n hx hb dX3_change_46 rfl (lv_at hl 0 rfl) ?_
  refine mk_get hAt hK hP 18 (by decide) (v := .int 1) rfl (hts _ q808) rfl dX3_change_47 ?_
  refine lv_if_le (tgt := 55) hx hb dX3_change_50 (by decide) (fun c_2 => ?_) (fun c_2 => ?_)
  · exact absurd c_2 (by decide)
  refine lv_iconst (v := 0) hx hb dX3_change_53 (by decide) ?_
  exact hR _ _ _ _ _ dX3_change_54 (hP) hS
set_option maxHeartbeats 4000000 in
theorem m_changeB (l : Launch) (D : xk_G) (A : Nat → Prop) (ad : Nat → Nat) (σ : Nat → Nat → Int32) (nw az ir : Nat → Int32) (n : Nat → Nat) (th : Int32) (hJ : mk_ok A ad) (h4m : n 4 ≤ 8) (k : Nat) (hk : k < n 4) (y : Int32) : Met l yX3_change (ws_ yX3_change cX3_change 4 (some .int)) (xk_R 2 42) (xk_Pre D A (mP D ad σ nw az ir n th) [.ref (ad 0), .int (nI k), .int y]) (xk_Pi A (fun r H => if mk_tChange nw k y = 0 then (r = σ 9 k ∧ mP D ad (va_up σ 9 (upd (σ 9) k y)) nw az ir n (mk_tChange nw k y) H) else mP D ad σ nw az ir n (mk_tChange nw k y) H)) 0 0 A := by
  refine xk_startI (by decide +kernel) (Nat.le_of_ble_eq_true rfl) ?_
  intro p e s m args below meth c Q hAt hin hK hA hP hR ls hl
  obtain ⟨hx, hb, hml, hown, hts⟩ := id hAt
  have hl : lv_has ls 4 [(0, .ref (ad 0)), (1, .int (nI k)), (2, .int y)] := hl
  have hS : va_S A s.heap s.heap [] := va_S.rf
  refine lv_aload_n hx hb dX3_change_0 rfl (lv_at hl 0 rfl) ?_
  refine lv_iload_n hx hb dX3_change_1 rfl (lv_at hl 1 rfl) ?_
  refine lv_iconst (v := 0) hx hb dX3_change_2 (by decide) ?_
  refine lv_aload_n hx hb dX3_change_3 rfl (lv_at hl 0 rfl) ?_
  refine mk_get hAt hK hP 13 (by decide) (v := .int (nI (n 4))) rfl (hts _ q803) rfl dX3_change_4 ?_
  refine lv_iconst (v := 1) hx hb dX3_change_7 (by decide) ?_
  refine lv_isub hx hb dX3_change_8 ?_
  refine mk_ciS hAt hK (P := mP D ad σ nw az ir n th) hP hA hS (As := [.int (nI k), .int 0, .int ((nI (n 4)) - 1)]) (rest := [.ref (ad 0)]) (m_in l D A (mP D ad σ nw az ir n th) (nI k) 0 ((nI (n 4)) - 1)) (va_cwS 3 hts (lw_S q863 q864 q42 q865) rfl rfl rfl cdX3_in ⟨Nat.le_of_ble_eq_true rfl, Nat.le_of_ble_eq_true rfl⟩) rfl hl.1 rfl (Nat.le_of_ble_eq_true rfl) dX3_change_9 ⟨Nat.le_refl _, Nat.le_refl _⟩ (fun r H locs hq hS => ?_)
  obtain ⟨rfl, hP⟩ := hq
  have J43_2 : ∀ (H : Heap) (locs : List Loc) (ls : Array Slot) (t0 : Int32), t0 = (if mk_in y 0 255 then (if mk_al nw k then 0 else 3) else 2) → mP D ad σ nw az ir n th H → va_S A s.heap H locs → lv_has ls 4 [(0, .ref (ad 0)), (1, .int (nI k)), (2, .int y)] → W p l e (xk_R 2 42) s m args below meth c H locs 0 0 Q (F0 m 43 ls [.int t0, .ref (ad 0)]) := by
    intro H locs ls t0 et0 hP hS hl
    subst et0
    refine mk_put hAt hK hJ hP hS 18 (by decide) (hts _ q808) rfl rfl (ty := .int) (by decide +kernel) rfl rfl (ad' := ad) (n' := n) (th' := (if mk_in y 0 255 then (if mk_al nw k then 0 else 3) else 2)) rfl rfl dX3_change_43 (fun H locs hP hS => ?_)
    have hP : mP D ad σ nw az ir n (if mk_in y 0 255 then (if mk_al nw k then 0 else 3) else 2) H := hP
    have hP : mP D ad σ nw az ir n (mk_tChange nw k y) H := hP
    refine lv_aload_n hx hb dX3_change_46 rfl (lv_at hl 0 rfl) ?_
    refine mk_get hAt hK hP 18 (by decide) (v := .int (mk_tChange nw k y)) rfl (hts _ q808) rfl dX3_change_47 ?_
    refine lv_if_le (tgt := 55) hx hb dX3_change_50 (by decide) (fun c_3 => ?_) (fun c_3 => ?_)
    · skip
      have h0 := t4_0 c_3 (mk_tChange_4 nw k y)
      refine lv_aload_n hx hb dX3_change_55 rfl (lv_at hl 0 rfl) ?_
      refine mk_get hAt hK hP 14 (by decide) (v := .ref (ad 10)) rfl (hts _ q804) rfl dX3_change_56 ?_
      refine lv_iload_n hx hb dX3_change_59 rfl (lv_at hl 1 rfl) ?_
      refine mk_iald hAt hK hP 10 (f := σ 9) rfl k (by omega) (by decide) dX3_change_60 ?_
      refine lv_istore_n (lv' := [(3, .int (σ 9 k)), (0, .ref (ad 0)), (1, .int (nI k)), (2, .int y)]) hx hb dX3_change_61 rfl hl (by decide) rfl (fun ls hl => ?_)
      refine lv_aload_n hx hb dX3_change_62 rfl (lv_at hl 1 rfl) ?_
      refine mk_get hAt hK hP 14 (by decide) (v := .ref (ad 10)) rfl (hts _ q804) rfl dX3_change_63 ?_
      refine lv_iload_n hx hb dX3_change_66 rfl (lv_at hl 2 rfl) ?_
      refine lv_iload_n hx hb dX3_change_67 rfl (lv_at hl 3 rfl) ?_
      refine mk_iast hAt hK hJ hP hS 10 (f := σ 9) rfl k (by omega) (by decide) (σ' := va_up σ 9 (upd (σ 9) k y)) (nw' := nw) (az' := az) rfl dX3_change_68 (fun H locs hP hS => ?_)
      refine lv_iload_n hx hb dX3_change_69 rfl (lv_at hl 0 rfl) ?_
      exact hR _ _ _ _ _ dX3_change_70 (xk_ifp h0 ⟨rfl, hP⟩) hS
    refine lv_iconst (v := 0) hx hb dX3_change_53 (by decide) ?_
    exact hR _ _ _ _ _ dX3_change_54 (xk_ifn (t4_1 c_3) hP) hS
  refine xk_ifne (tgt := 19) hx hb dX3_change_12 (by decide) (fun c_1 => ?_) (fun c_1 => ?_)
  · skip
    refine lv_iload_n hx hb dX3_change_19 rfl (lv_at hl 2 rfl) ?_
    refine mk_ciS hAt hK (P := mP D ad σ nw az ir n th) hP hA hS (As := [.int y]) (rest := [.ref (ad 0)]) (m_isWord l D A (mP D ad σ nw az ir n th) y) (va_cwS 1 hts (lw_S q870 q871 q42 q872) rfl rfl rfl cdX3_isWord ⟨Nat.le_of_ble_eq_true rfl, Nat.le_of_ble_eq_true rfl⟩) rfl hl.1 rfl (Nat.le_of_ble_eq_true rfl) dX3_change_20 ⟨Nat.le_refl _, Nat.le_refl _⟩ (fun r H locs hq hS => ?_)
    obtain ⟨rfl, hP⟩ := hq
    refine xk_ifne (tgt := 30) hx hb dX3_change_23 (by decide) (fun c_4 => ?_) (fun c_4 => ?_)
    · skip
      refine lv_aload_n hx hb dX3_change_30 rfl (lv_at hl 0 rfl) ?_
      refine lv_iload_n hx hb dX3_change_31 rfl (lv_at hl 1 rfl) ?_
      refine mk_ciV hAt hK hP hA hS (As := [.int (nI k)]) (rest := [.ref (ad 0)]) (m_isAlive l D A ad σ nw az ir n th hJ k (by omega)) (cwV 1 hts (lw_V q932 q934 qs17 q42 q935) rfl rfl rfl cdX3_isAlive ⟨Nat.le_of_ble_eq_true rfl, Nat.le_of_ble_eq_true rfl⟩) rfl hl.1 rfl (Nat.le_of_ble_eq_true rfl) dX3_change_32 ⟨Nat.le_refl _, Nat.le_refl _⟩ (fun r H locs hq hS => ?_)
      obtain ⟨rfl, hP⟩ := hq
      refine xk_ifne (tgt := 42) hx hb dX3_change_35 (by decide) (fun c_5 => ?_) (fun c_5 => ?_)
      · skip
        refine lv_iconst (v := 0) hx hb dX3_change_42 (by decide) ?_
        exact J43_2 _ _ _ 0 (((if_pos c_5).symm).trans (if_pos c_4).symm) hP hS (lv_sub hl [0, 1, 2] rfl)
      refine lv_iconst (v := 3) hx hb dX3_change_38 (by decide) ?_
      refine lv_goto (tgt := 43) hx hb dX3_change_39 (by decide) ?_
      exact J43_2 _ _ _ 3 (((if_neg c_5).symm).trans (if_pos c_4).symm) hP hS (lv_sub hl [0, 1, 2] rfl)
    refine lv_iconst (v := 2) hx hb dX3_change_26 (by decide) ?_
    refine lv_goto (tgt := 43) hx hb dX3_change_27 (by decide) ?_
    exact J43_2 _ _ _ 2 ((if_neg c_4).symm) hP hS (lv_sub hl [0, 1, 2] rfl)
  exact absurd ((mk_inC (by omega)).mpr ⟨k, hk, rfl⟩) c_1
set_option maxHeartbeats 4000000 in
theorem m_invaderIsA (l : Launch) (D : xk_G) (A : Nat → Prop) (ad : Nat → Nat) (σ : Nat → Nat → Int32) (nw az ir : Nat → Int32) (n : Nat → Nat) (th : Int32) (hJ : mk_ok A ad) (h4m : n 4 ≤ 8) (x y : Int32) (hx0 : ¬ ∃ j, j < n 4 ∧ x = nI j) : Met l yX3_invaderIs (ws_ yX3_invaderIs cX3_invaderIs 3 (some .int)) (xk_R 1 22) (xk_Pre D A (mP D ad σ nw az ir n th) [.ref (ad 0), .int x, .int y]) (xk_Pi A (fun r H => mP D ad σ nw az ir n 1 H)) 0 0 A := by
  refine xk_startI (by decide +kernel) (Nat.le_of_ble_eq_true rfl) ?_
  intro p e s m args below meth c Q hAt hin hK hA hP hR ls hl
  obtain ⟨hx, hb, hml, hown, hts⟩ := id hAt
  have hl : lv_has ls 3 [(0, .ref (ad 0)), (1, .int x), (2, .int y)] := hl
  have hS : va_S A s.heap s.heap [] := va_S.rf
  refine lv_aload_n hx hb dX3_invaderIs_0 rfl (lv_at hl 0 rfl) ?_
  refine lv_iload_n hx hb dX3_invaderIs_1 rfl (lv_at hl 1 rfl) ?_
  refine lv_iconst (v := 0) hx hb dX3_invaderIs_2 (by decide) ?_
  refine lv_aload_n hx hb dX3_invaderIs_3 rfl (lv_at hl 0 rfl) ?_
  refine mk_get hAt hK hP 13 (by decide) (v := .int (nI (n 4))) rfl (hts _ q803) rfl dX3_invaderIs_4 ?_
  refine lv_iconst (v := 1) hx hb dX3_invaderIs_7 (by decide) ?_
  refine lv_isub hx hb dX3_invaderIs_8 ?_
  refine mk_ciS hAt hK (P := mP D ad σ nw az ir n th) hP hA hS (As := [.int x, .int 0, .int ((nI (n 4)) - 1)]) (rest := [.ref (ad 0)]) (m_in l D A (mP D ad σ nw az ir n th) x 0 ((nI (n 4)) - 1)) (va_cwS 3 hts (lw_S q863 q864 q42 q865) rfl rfl rfl cdX3_in ⟨Nat.le_of_ble_eq_true rfl, Nat.le_of_ble_eq_true rfl⟩) rfl hl.1 rfl (Nat.le_of_ble_eq_true rfl) dX3_invaderIs_9 ⟨Nat.le_refl _, Nat.le_refl _⟩ (fun r H locs hq hS => ?_)
  obtain ⟨rfl, hP⟩ := hq
  refine xk_ifne (tgt := 19) hx hb dX3_invaderIs_12 (by decide) (fun c_1 => ?_) (fun c_1 => ?_)
  · skip
    exact absurd ((mk_inC (by omega)).mp c_1) hx0
  refine lv_iconst (v := 1) hx hb dX3_invaderIs_15 (by decide) ?_
  refine lv_goto (tgt := 33) hx hb dX3_invaderIs_16 (by decide) ?_
  refine mk_put hAt hK hJ hP hS 18 (by decide) (hts _ q808) rfl rfl (ty := .int) (by decide +kernel) rfl rfl (ad' := ad) (n' := n) (th' := 1) rfl rfl dX3_invaderIs_33 (fun H locs hP hS => ?_)
  have hP : mP D ad σ nw az ir n 1 H := hP
  refine lv_aload_n hx hb dX3_invaderIs_36 rfl (lv_at hl 0 rfl) ?_
  refine mk_get hAt hK hP 18 (by decide) (v := .int 1) rfl (hts _ q808) rfl dX3_invaderIs_37 ?_
  refine lv_if_le (tgt := 45) hx hb dX3_invaderIs_40 (by decide) (fun c_2 => ?_) (fun c_2 => ?_)
  · exact absurd c_2 (by decide)
  refine lv_iconst (v := 0) hx hb dX3_invaderIs_43 (by decide) ?_
  exact hR _ _ _ _ _ dX3_invaderIs_44 (hP) hS
set_option maxHeartbeats 4000000 in
theorem m_invaderIsB (l : Launch) (D : xk_G) (A : Nat → Prop) (ad : Nat → Nat) (σ : Nat → Nat → Int32) (nw az ir : Nat → Int32) (n : Nat → Nat) (th : Int32) (hJ : mk_ok A ad) (h4m : n 4 ≤ 8) (k : Nat) (hk : k < n 4) (y : Int32) : Met l yX3_invaderIs (ws_ yX3_invaderIs cX3_invaderIs 3 (some .int)) (xk_R 1 22) (xk_Pre D A (mP D ad σ nw az ir n th) [.ref (ad 0), .int (nI k), .int y]) (xk_Pi A (fun r H => if mk_tIs y = 0 then ((∃ j, j ≤ 4 ∧ y = nI j ∧ r = mk_invIs σ nw k j) ∧ mP D ad σ nw az ir n (mk_tIs y) H) else mP D ad σ nw az ir n (mk_tIs y) H)) 0 0 A := by
  refine xk_startI (by decide +kernel) (Nat.le_of_ble_eq_true rfl) ?_
  intro p e s m args below meth c Q hAt hin hK hA hP hR ls hl
  obtain ⟨hx, hb, hml, hown, hts⟩ := id hAt
  have hl : lv_has ls 3 [(0, .ref (ad 0)), (1, .int (nI k)), (2, .int y)] := hl
  have hS : va_S A s.heap s.heap [] := va_S.rf
  refine lv_aload_n hx hb dX3_invaderIs_0 rfl (lv_at hl 0 rfl) ?_
  refine lv_iload_n hx hb dX3_invaderIs_1 rfl (lv_at hl 1 rfl) ?_
  refine lv_iconst (v := 0) hx hb dX3_invaderIs_2 (by decide) ?_
  refine lv_aload_n hx hb dX3_invaderIs_3 rfl (lv_at hl 0 rfl) ?_
  refine mk_get hAt hK hP 13 (by decide) (v := .int (nI (n 4))) rfl (hts _ q803) rfl dX3_invaderIs_4 ?_
  refine lv_iconst (v := 1) hx hb dX3_invaderIs_7 (by decide) ?_
  refine lv_isub hx hb dX3_invaderIs_8 ?_
  refine mk_ciS hAt hK (P := mP D ad σ nw az ir n th) hP hA hS (As := [.int (nI k), .int 0, .int ((nI (n 4)) - 1)]) (rest := [.ref (ad 0)]) (m_in l D A (mP D ad σ nw az ir n th) (nI k) 0 ((nI (n 4)) - 1)) (va_cwS 3 hts (lw_S q863 q864 q42 q865) rfl rfl rfl cdX3_in ⟨Nat.le_of_ble_eq_true rfl, Nat.le_of_ble_eq_true rfl⟩) rfl hl.1 rfl (Nat.le_of_ble_eq_true rfl) dX3_invaderIs_9 ⟨Nat.le_refl _, Nat.le_refl _⟩ (fun r H locs hq hS => ?_)
  obtain ⟨rfl, hP⟩ := hq
  have J33_2 : ∀ (H : Heap) (locs : List Loc) (ls : Array Slot) (t0 : Int32), t0 = (if mk_in y 0 4 then 0 else 2) → mP D ad σ nw az ir n th H → va_S A s.heap H locs → lv_has ls 3 [(0, .ref (ad 0)), (1, .int (nI k)), (2, .int y)] → W p l e (xk_R 1 22) s m args below meth c H locs 0 0 Q (F0 m 33 ls [.int t0, .ref (ad 0)]) := by
    intro H locs ls t0 et0 hP hS hl
    subst et0
    refine mk_put hAt hK hJ hP hS 18 (by decide) (hts _ q808) rfl rfl (ty := .int) (by decide +kernel) rfl rfl (ad' := ad) (n' := n) (th' := (if mk_in y 0 4 then 0 else 2)) rfl rfl dX3_invaderIs_33 (fun H locs hP hS => ?_)
    have hP : mP D ad σ nw az ir n (if mk_in y 0 4 then 0 else 2) H := hP
    have hP : mP D ad σ nw az ir n (mk_tIs y) H := hP
    refine lv_aload_n hx hb dX3_invaderIs_36 rfl (lv_at hl 0 rfl) ?_
    refine mk_get hAt hK hP 18 (by decide) (v := .int (mk_tIs y)) rfl (hts _ q808) rfl dX3_invaderIs_37 ?_
    refine lv_if_le (tgt := 45) hx hb dX3_invaderIs_40 (by decide) (fun c_3 => ?_) (fun c_3 => ?_)
    · skip
      have h0 := t4_0 c_3 (mk_tIs_4 y)
      have hf := mk_tIs_f h0
      obtain ⟨ey, ey2, ey3⟩ := mk_inN (k := 4) (by omega) (by decide) hf
      obtain ⟨j, hj, rfl⟩ : ∃ j : Nat, j ≤ 4 ∧ y = nI j := ⟨_, ey2, ey⟩
      refine lv_iload_n hx hb dX3_invaderIs_45 rfl (lv_at hl 2 rfl) ?_
      rcases (show j = 0 ∨ j = 1 ∨ j = 2 ∨ j = 3 ∨ j = 4 by omega) with rfl | rfl | rfl | rfl | rfl
      · refine lv_tableIn (x := nI 0) (off := 30) (tgt := 76) hx hb dX3_invaderIs_46 (by decide) (by decide) rfl (by decide) ?_
        refine lv_aload_n hx hb dX3_invaderIs_76 rfl (lv_at hl 0 rfl) ?_
        refine mk_get hAt hK hP 14 (by decide) (v := .ref (ad 10)) rfl (hts _ q804) rfl dX3_invaderIs_77 ?_
        refine lv_iload_n hx hb dX3_invaderIs_80 rfl (lv_at hl 1 rfl) ?_
        refine mk_iald hAt hK hP 10 (f := σ 9) rfl k (by omega) (by decide) dX3_invaderIs_81 ?_
        exact hR _ _ _ _ _ dX3_invaderIs_82 (xk_ifp h0 ⟨⟨0, by omega, rfl, rfl⟩, hP⟩) hS
      · refine lv_tableIn (x := nI 1) (off := 37) (tgt := 83) hx hb dX3_invaderIs_46 (by decide) (by decide) rfl (by decide) ?_
        refine lv_aload_n hx hb dX3_invaderIs_83 rfl (lv_at hl 0 rfl) ?_
        refine mk_get hAt hK hP 16 (by decide) (v := .ref (ad 12)) rfl (hts _ q806) rfl dX3_invaderIs_84 ?_
        refine lv_bipush (v := 120) hx hb dX3_invaderIs_87 (by decide) ?_
        refine lv_iload_n hx hb dX3_invaderIs_89 rfl (lv_at hl 1 rfl) ?_
        refine lv_iadd hx hb dX3_invaderIs_90 ?_
        refine xk_to (y := nI (120 + k)) (nI_add 120 k) ?_
        refine mk_iald hAt hK hP 12 (f := nw) rfl (120 + k) (by omega) (by decide) dX3_invaderIs_91 ?_
        exact hR _ _ _ _ _ dX3_invaderIs_92 (xk_ifp h0 ⟨⟨1, by omega, rfl, rfl⟩, hP⟩) hS
      · refine lv_tableIn (x := nI 2) (off := 47) (tgt := 93) hx hb dX3_invaderIs_46 (by decide) (by decide) rfl (by decide) ?_
        refine lv_aload_n hx hb dX3_invaderIs_93 rfl (lv_at hl 0 rfl) ?_
        refine mk_get hAt hK hP 15 (by decide) (v := .ref (ad 11)) rfl (hts _ q805) rfl dX3_invaderIs_94 ?_
        refine lv_iload_n hx hb dX3_invaderIs_97 rfl (lv_at hl 1 rfl) ?_
        refine mk_iald hAt hK hP 11 (f := σ 10) rfl k (by omega) (by decide) dX3_invaderIs_98 ?_
        exact hR _ _ _ _ _ dX3_invaderIs_99 (xk_ifp h0 ⟨⟨2, by omega, rfl, rfl⟩, hP⟩) hS
      · refine lv_tableIn (x := nI 3) (off := 54) (tgt := 100) hx hb dX3_invaderIs_46 (by decide) (by decide) rfl (by decide) ?_
        refine lv_aload_n hx hb dX3_invaderIs_100 rfl (lv_at hl 0 rfl) ?_
        refine mk_get hAt hK hP 16 (by decide) (v := .ref (ad 12)) rfl (hts _ q806) rfl dX3_invaderIs_101 ?_
        refine lv_sipush (v := 128) hx hb dX3_invaderIs_104 (by decide) ?_
        refine lv_iload_n hx hb dX3_invaderIs_107 rfl (lv_at hl 1 rfl) ?_
        refine lv_iadd hx hb dX3_invaderIs_108 ?_
        refine xk_to (y := nI (128 + k)) (nI_add 128 k) ?_
        refine mk_iald hAt hK hP 12 (f := nw) rfl (128 + k) (by omega) (by decide) dX3_invaderIs_109 ?_
        exact hR _ _ _ _ _ dX3_invaderIs_110 (xk_ifp h0 ⟨⟨3, by omega, rfl, rfl⟩, hP⟩) hS
      · refine lv_tableOut (x := nI 4) (tgt := 111) hx hb dX3_invaderIs_46 (Or.inr (by decide)) (by decide) ?_
        refine lv_aload_n hx hb dX3_invaderIs_111 rfl (lv_at hl 0 rfl) ?_
        refine mk_get hAt hK hP 16 (by decide) (v := .ref (ad 12)) rfl (hts _ q806) rfl dX3_invaderIs_112 ?_
        refine lv_sipush (v := 136) hx hb dX3_invaderIs_115 (by decide) ?_
        refine lv_iload_n hx hb dX3_invaderIs_118 rfl (lv_at hl 1 rfl) ?_
        refine lv_iadd hx hb dX3_invaderIs_119 ?_
        refine xk_to (y := nI (136 + k)) (nI_add 136 k) ?_
        refine mk_iald hAt hK hP 12 (f := nw) rfl (136 + k) (by omega) (by decide) dX3_invaderIs_120 ?_
        exact hR _ _ _ _ _ dX3_invaderIs_121 (xk_ifp h0 ⟨⟨4, by omega, rfl, rfl⟩, hP⟩) hS
    refine lv_iconst (v := 0) hx hb dX3_invaderIs_43 (by decide) ?_
    exact hR _ _ _ _ _ dX3_invaderIs_44 (xk_ifn (t4_1 c_3) hP) hS
  refine xk_ifne (tgt := 19) hx hb dX3_invaderIs_12 (by decide) (fun c_1 => ?_) (fun c_1 => ?_)
  · skip
    refine lv_iload_n hx hb dX3_invaderIs_19 rfl (lv_at hl 2 rfl) ?_
    refine lv_iconst (v := 0) hx hb dX3_invaderIs_20 (by decide) ?_
    refine lv_iconst (v := 4) hx hb dX3_invaderIs_21 (by decide) ?_
    refine mk_ciS hAt hK (P := mP D ad σ nw az ir n th) hP hA hS (As := [.int y, .int 0, .int 4]) (rest := [.ref (ad 0)]) (m_in l D A (mP D ad σ nw az ir n th) y 0 4) (va_cwS 3 hts (lw_S q863 q864 q42 q865) rfl rfl rfl cdX3_in ⟨Nat.le_of_ble_eq_true rfl, Nat.le_of_ble_eq_true rfl⟩) rfl hl.1 rfl (Nat.le_of_ble_eq_true rfl) dX3_invaderIs_22 ⟨Nat.le_refl _, Nat.le_refl _⟩ (fun r H locs hq hS => ?_)
    obtain ⟨rfl, hP⟩ := hq
    refine xk_ifne (tgt := 32) hx hb dX3_invaderIs_25 (by decide) (fun c_4 => ?_) (fun c_4 => ?_)
    · skip
      refine lv_iconst (v := 0) hx hb dX3_invaderIs_32 (by decide) ?_
      exact J33_2 _ _ _ 0 ((if_pos c_4).symm) hP hS (lv_sub hl [0, 1, 2] rfl)
    refine lv_iconst (v := 2) hx hb dX3_invaderIs_28 (by decide) ?_
    refine lv_goto (tgt := 33) hx hb dX3_invaderIs_29 (by decide) ?_
    exact J33_2 _ _ _ 2 ((if_neg c_4).symm) hP hS (lv_sub hl [0, 1, 2] rfl)
  exact absurd ((mk_inC (by omega)).mpr ⟨k, hk, rfl⟩) c_1
set_option maxHeartbeats 4000000 in
theorem m_whyA (l : Launch) (D : xk_G) (A : Nat → Prop) (ad : Nat → Nat) (σ : Nat → Nat → Int32) (nw az ir : Nat → Int32) (n : Nat → Nat) (th : Int32) (hJ : mk_ok A ad) (h4m : n 4 ≤ 8) (x : Int32) (hx0 : ¬ ∃ j, j < n 4 ∧ x = nI j) : Met l yX3_why (ws_ yX3_why cX3_why 9 (some .int)) (xk_R 1 22) (xk_Pre D A (mP D ad σ nw az ir n th) [.ref (ad 0), .int x]) (xk_Pi A (fun r H => mP D ad σ nw az ir n 1 H)) 0 0 A := by
  refine xk_startI (by decide +kernel) (Nat.le_of_ble_eq_true rfl) ?_
  intro p e s m args below meth c Q hAt hin hK hA hP hR ls hl
  obtain ⟨hx, hb, hml, hown, hts⟩ := id hAt
  have hl : lv_has ls 9 [(0, .ref (ad 0)), (1, .int x)] := hl
  have hS : va_S A s.heap s.heap [] := va_S.rf
  refine lv_aload_n hx hb dX3_why_0 rfl (lv_at hl 0 rfl) ?_
  refine lv_iload_n hx hb dX3_why_1 rfl (lv_at hl 1 rfl) ?_
  refine lv_iconst (v := 0) hx hb dX3_why_2 (by decide) ?_
  refine lv_aload_n hx hb dX3_why_3 rfl (lv_at hl 0 rfl) ?_
  refine mk_get hAt hK hP 13 (by decide) (v := .int (nI (n 4))) rfl (hts _ q803) rfl dX3_why_4 ?_
  refine lv_iconst (v := 1) hx hb dX3_why_7 (by decide) ?_
  refine lv_isub hx hb dX3_why_8 ?_
  refine mk_ciS hAt hK (P := mP D ad σ nw az ir n th) hP hA hS (As := [.int x, .int 0, .int ((nI (n 4)) - 1)]) (rest := [.ref (ad 0)]) (m_in l D A (mP D ad σ nw az ir n th) x 0 ((nI (n 4)) - 1)) (va_cwS 3 hts (lw_S q863 q864 q42 q865) rfl rfl rfl cdX3_in ⟨Nat.le_of_ble_eq_true rfl, Nat.le_of_ble_eq_true rfl⟩) rfl hl.1 rfl (Nat.le_of_ble_eq_true rfl) dX3_why_9 ⟨Nat.le_refl _, Nat.le_refl _⟩ (fun r H locs hq hS => ?_)
  obtain ⟨rfl, hP⟩ := hq
  refine xk_ifeq (tgt := 19) hx hb dX3_why_12 (by decide) (fun c_1 => ?_) (fun c_1 => ?_)
  · skip
    refine lv_iconst (v := 1) hx hb dX3_why_19 (by decide) ?_
    refine mk_put hAt hK hJ hP hS 18 (by decide) (hts _ q808) rfl rfl (ty := .int) (by decide +kernel) rfl rfl (ad' := ad) (n' := n) (th' := 1) rfl rfl dX3_why_20 (fun H locs hP hS => ?_)
    have hP : mP D ad σ nw az ir n 1 H := hP
    refine lv_aload_n hx hb dX3_why_23 rfl (lv_at hl 0 rfl) ?_
    refine mk_get hAt hK hP 18 (by decide) (v := .int 1) rfl (hts _ q808) rfl dX3_why_24 ?_
    refine lv_if_le (tgt := 32) hx hb dX3_why_27 (by decide) (fun c_2 => ?_) (fun c_2 => ?_)
    · exact absurd c_2 (by decide)
    refine lv_iconst (v := 0) hx hb dX3_why_30 (by decide) ?_
    exact hR _ _ _ _ _ dX3_why_31 (hP) hS
  exact absurd ((mk_inC (by omega)).mp c_1) hx0
set_option maxHeartbeats 4000000 in
theorem m_whyB (l : Launch) (D : xk_G) (A : Nat → Prop) (ad : Nat → Nat) (σ : Nat → Nat → Int32) (nw az ir : Nat → Int32) (n : Nat → Nat) (th : Int32) (hJ : mk_ok A ad) (h3m : n 3 ≤ 40) (h4m : n 4 ≤ 8) (b : Nat) (hb2 : b < n 4) : Met l yX3_why (ws_ yX3_why cX3_why 9 (some .int)) (xk_R 3 67) (xk_Pre D A (mP D ad σ nw az ir n th) [.ref (ad 0), .int (nI b)]) (xk_Pi A (fun r H => r = mk_why σ nw n b ∧ mP D ad σ nw az ir n 0 H)) 0 0 A := by
  refine xk_startI (by decide +kernel) (Nat.le_of_ble_eq_true rfl) ?_
  intro p e s m args below meth c Q hAt hin hK hA hP hR ls hl
  obtain ⟨hx, hb, hml, hown, hts⟩ := id hAt
  have hl : lv_has ls 9 [(0, .ref (ad 0)), (1, .int (nI b))] := hl
  have hS : va_S A s.heap s.heap [] := va_S.rf
  refine lv_aload_n hx hb dX3_why_0 rfl (lv_at hl 0 rfl) ?_
  refine lv_iload_n hx hb dX3_why_1 rfl (lv_at hl 1 rfl) ?_
  refine lv_iconst (v := 0) hx hb dX3_why_2 (by decide) ?_
  refine lv_aload_n hx hb dX3_why_3 rfl (lv_at hl 0 rfl) ?_
  refine mk_get hAt hK hP 13 (by decide) (v := .int (nI (n 4))) rfl (hts _ q803) rfl dX3_why_4 ?_
  refine lv_iconst (v := 1) hx hb dX3_why_7 (by decide) ?_
  refine lv_isub hx hb dX3_why_8 ?_
  refine mk_ciS hAt hK (P := mP D ad σ nw az ir n th) hP hA hS (As := [.int (nI b), .int 0, .int ((nI (n 4)) - 1)]) (rest := [.ref (ad 0)]) (m_in l D A (mP D ad σ nw az ir n th) (nI b) 0 ((nI (n 4)) - 1)) (va_cwS 3 hts (lw_S q863 q864 q42 q865) rfl rfl rfl cdX3_in ⟨Nat.le_of_ble_eq_true rfl, Nat.le_of_ble_eq_true rfl⟩) rfl hl.1 rfl (Nat.le_of_ble_eq_true rfl) dX3_why_9 ⟨Nat.le_refl _, Nat.le_refl _⟩ (fun r H locs hq hS => ?_)
  obtain ⟨rfl, hP⟩ := hq
  refine xk_ifeq (tgt := 19) hx hb dX3_why_12 (by decide) (fun c_1 => ?_) (fun c_1 => ?_)
  · skip
    exact absurd ((mk_inC (by omega)).mpr ⟨b, hb2, rfl⟩) c_1
  refine lv_iconst (v := 0) hx hb dX3_why_15 (by decide) ?_
  refine lv_goto (tgt := 20) hx hb dX3_why_16 (by decide) ?_
  refine mk_put hAt hK hJ hP hS 18 (by decide) (hts _ q808) rfl rfl (ty := .int) (by decide +kernel) rfl rfl (ad' := ad) (n' := n) (th' := 0) rfl rfl dX3_why_20 (fun H locs hP hS => ?_)
  have hP : mP D ad σ nw az ir n 0 H := hP
  refine lv_aload_n hx hb dX3_why_23 rfl (lv_at hl 0 rfl) ?_
  refine mk_get hAt hK hP 18 (by decide) (v := .int 0) rfl (hts _ q808) rfl dX3_why_24 ?_
  refine lv_if_le (tgt := 32) hx hb dX3_why_27 (by decide) (fun c_2 => ?_) (fun c_2 => ?_)
  · skip
    refine lv_iconst (v := 0) hx hb dX3_why_32 (by decide) ?_
    refine lv_istore_n (lv' := [(2, .int 0), (0, .ref (ad 0)), (1, .int (nI b))]) hx hb dX3_why_33 rfl hl (by decide) rfl (fun ls hl => ?_)
    refine lv_iconst (v := 0) hx hb dX3_why_34 (by decide) ?_
    refine lv_istore_n (lv' := [(3, .int 0), (2, .int 0), (0, .ref (ad 0)), (1, .int (nI b))]) hx hb dX3_why_35 rfl hl (by decide) rfl (fun ls hl => ?_)
    refine lv_iconst (v := 0) hx hb dX3_why_36 (by decide) ?_
    refine lv_istore (lv' := [(4, .int 0), (3, .int 0), (2, .int 0), (0, .ref (ad 0)), (1, .int (nI b))]) hx hb dX3_why_37 hl (by decide) rfl (fun ls hl => ?_)
    refine lv_iconst (v := 0) hx hb dX3_why_39 (by decide) ?_
    refine lv_istore (lv' := [(5, .int 0), (4, .int 0), (3, .int 0), (2, .int 0), (0, .ref (ad 0)), (1, .int (nI b))]) hx hb dX3_why_40 hl (by decide) rfl (fun ls hl => ?_)
    refine lv_iconst (v := 0) hx hb dX3_why_42 (by decide) ?_
    refine lv_istore (lv' := [(6, .int 0), (5, .int 0), (4, .int 0), (3, .int 0), (2, .int 0), (0, .ref (ad 0)), (1, .int (nI b))]) hx hb dX3_why_43 hl (by decide) rfl (fun ls hl => ?_)
    refine lv_iconst (v := 0) hx hb dX3_why_45 (by decide) ?_
    refine lv_istore (lv' := [(7, .int 0), (6, .int 0), (5, .int 0), (4, .int 0), (3, .int 0), (2, .int 0), (0, .ref (ad 0)), (1, .int (nI b))]) hx hb dX3_why_46 hl (by decide) rfl (fun ls hl => ?_)
    have L48 : ∀ (j i48 : Nat), n 3 + 1 ≤ i48 + j → i48 ≤ n 3 → ∀ (H : Heap) (locs : List Loc) (ls : Array Slot) (v2 : Int32) (v3 : Int32) (v4 : Int32) (v5 : Int32) (v6 : Int32), v2 = mk_why1 σ b i48 → v3 = mk_why2 σ nw b i48 → v4 = mk_why3 σ nw b i48 → v5 = mk_why4 σ nw b i48 → v6 = mk_why5 σ nw b i48 → mP D ad σ nw az ir n 0 H → va_S A s.heap H locs → lv_has ls 9 [(7, .int (nI i48)), (6, .int v6), (5, .int v5), (4, .int v4), (3, .int v3), (2, .int v2), (0, .ref (ad 0)), (1, .int (nI b))] → W p l e (xk_R 3 67) s m args below meth c H locs 0 0 Q (F0 m 48 ls []) := by
      intro j
      induction j with
      | zero => intro i48 h48a h48b; exact absurd h48a (by omega)
      | succ j ih48 =>
        intro i48 h48a h48b  H locs ls v2 v3 v4 v5 v6 ev2 ev3 ev4 ev5 ev6 hP hS hl
        subst ev2
        subst ev3
        subst ev4
        subst ev5
        subst ev6
        refine lv_iload hx hb dX3_why_48 (lv_at hl 0 rfl) ?_
        refine lv_aload_n hx hb dX3_why_50 rfl (lv_at hl 6 rfl) ?_
        refine mk_get hAt hK hP 9 (by decide) (v := .int (nI (n 3))) rfl (hts _ q799) rfl dX3_why_51 ?_
        refine mk_ge (tgt := 169) (a := i48) (b := n 3) hx hb (by omega) (by omega) dX3_why_54 (by decide) (fun c_3 => ?_) (fun c_3 => ?_)
        · skip
          obtain rfl : i48 = n 3 := by omega
          refine lv_aload_n hx hb dX3_why_169 rfl (lv_at hl 6 rfl) ?_
          refine lv_iload_n hx hb dX3_why_170 rfl (lv_at hl 7 rfl) ?_
          refine mk_ciV hAt hK hP hA hS (As := [.int (nI b)]) (rest := []) (m_isAlive l D A ad σ nw az ir n 0 hJ b (by omega)) (cwV 1 hts (lw_V q932 q934 qs17 q42 q935) rfl rfl rfl cdX3_isAlive ⟨Nat.le_of_ble_eq_true rfl, Nat.le_of_ble_eq_true rfl⟩) rfl hl.1 rfl (Nat.le_of_ble_eq_true rfl) dX3_why_171 ⟨Nat.le_refl _, Nat.le_refl _⟩ (fun r H locs hq hS => ?_)
          obtain ⟨rfl, hP⟩ := hq
          have J230_5 : ∀ (H : Heap) (locs : List Loc) (ls : Array Slot) (t0 : Int32), t0 = (if mk_al nw b then (if mk_why1 σ b (n 3) = 0 then 2 else (if mk_why1 σ b (n 3) = mk_why2 σ nw b (n 3) then 3 else (if mk_why1 σ b (n 3) = ((mk_why2 σ nw b (n 3)) + (mk_why3 σ nw b (n 3))) then 4 else (if mk_why4 σ nw b (n 3) = 0 then 5 else (if mk_why5 σ nw b (n 3) = 0 then 6 else 0))))) else 1) → mP D ad σ nw az ir n 0 H → va_S A s.heap H locs → lv_has ls 9 [(7, .int (nI (n 3))), (6, .int (mk_why5 σ nw b (n 3))), (5, .int (mk_why4 σ nw b (n 3))), (4, .int (mk_why3 σ nw b (n 3))), (3, .int (mk_why2 σ nw b (n 3))), (2, .int (mk_why1 σ b (n 3))), (0, .ref (ad 0)), (1, .int (nI b))] → W p l e (xk_R 3 67) s m args below meth c H locs 0 0 Q (F0 m 230 ls [.int t0]) := by
            intro H locs ls t0 et0 hP hS hl
            subst et0
            exact hR _ _ _ _ _ dX3_why_230 (⟨rfl, hP⟩) hS
          refine xk_ifne (tgt := 181) hx hb dX3_why_174 (by decide) (fun c_4 => ?_) (fun c_4 => ?_)
          · skip
            refine lv_iload_n hx hb dX3_why_181 rfl (lv_at hl 5 rfl) ?_
            refine lv_if_ne (tgt := 189) hx hb dX3_why_182 (by decide) (fun c_6 => ?_) (fun c_6 => ?_)
            · skip
              refine lv_iload_n hx hb dX3_why_189 rfl (lv_at hl 5 rfl) ?_
              refine lv_iload_n hx hb dX3_why_190 rfl (lv_at hl 4 rfl) ?_
              refine lv_icmp_ne (tgt := 198) hx hb dX3_why_191 (by decide) (fun c_7 => ?_) (fun c_7 => ?_)
              · skip
                refine lv_iload_n hx hb dX3_why_198 rfl (lv_at hl 5 rfl) ?_
                refine lv_iload_n hx hb dX3_why_199 rfl (lv_at hl 4 rfl) ?_
                refine lv_iload hx hb dX3_why_200 (lv_at hl 3 rfl) ?_
                refine lv_iadd hx hb dX3_why_202 ?_
                refine lv_icmp_ne (tgt := 210) hx hb dX3_why_203 (by decide) (fun c_8 => ?_) (fun c_8 => ?_)
                · skip
                  refine lv_iload hx hb dX3_why_210 (lv_at hl 2 rfl) ?_
                  refine lv_if_ne (tgt := 219) hx hb dX3_why_212 (by decide) (fun c_9 => ?_) (fun c_9 => ?_)
                  · skip
                    refine lv_iload hx hb dX3_why_219 (lv_at hl 1 rfl) ?_
                    refine lv_if_ne (tgt := 229) hx hb dX3_why_221 (by decide) (fun c_10 => ?_) (fun c_10 => ?_)
                    · skip
                      refine lv_iconst (v := 0) hx hb dX3_why_229 (by decide) ?_
                      exact J230_5 _ _ _ 0 (((((((if_neg c_10).symm).trans (if_neg c_9).symm).trans (if_neg c_8).symm).trans (if_neg c_7).symm).trans (if_neg c_6).symm).trans (if_pos c_4).symm) hP hS (lv_sub hl [0, 1, 2, 3, 4, 5, 6, 7] rfl)
                    refine lv_bipush (v := 6) hx hb dX3_why_224 (by decide) ?_
                    refine lv_goto (tgt := 230) hx hb dX3_why_226 (by decide) ?_
                    exact J230_5 _ _ _ 6 (((((((if_pos c_10).symm).trans (if_neg c_9).symm).trans (if_neg c_8).symm).trans (if_neg c_7).symm).trans (if_neg c_6).symm).trans (if_pos c_4).symm) hP hS (lv_sub hl [0, 1, 2, 3, 4, 5, 6, 7] rfl)
                  refine lv_iconst (v := 5) hx hb dX3_why_215 (by decide) ?_
                  refine lv_goto (tgt := 230) hx hb dX3_why_216 (by decide) ?_
                  exact J230_5 _ _ _ 5 ((((((if_pos c_9).symm).trans (if_neg c_8).symm).trans (if_neg c_7).symm).trans (if_neg c_6).symm).trans (if_pos c_4).symm) hP hS (lv_sub hl [0, 1, 2, 3, 4, 5, 6, 7] rfl)
                refine lv_iconst (v := 4) hx hb dX3_why_206 (by decide) ?_
                refine lv_goto (tgt := 230) hx hb dX3_why_207 (by decide) ?_
                exact J230_5 _ _ _ 4 (((((if_pos c_8).symm).trans (if_neg c_7).symm).trans (if_neg c_6).symm).trans (if_pos c_4).symm) hP hS (lv_sub hl [0, 1, 2, 3, 4, 5, 6, 7] rfl)
              refine lv_iconst (v := 3) hx hb dX3_why_194 (by decide) ?_
              refine lv_goto (tgt := 230) hx hb dX3_why_195 (by decide) ?_
              exact J230_5 _ _ _ 3 ((((if_pos c_7).symm).trans (if_neg c_6).symm).trans (if_pos c_4).symm) hP hS (lv_sub hl [0, 1, 2, 3, 4, 5, 6, 7] rfl)
            refine lv_iconst (v := 2) hx hb dX3_why_185 (by decide) ?_
            refine lv_goto (tgt := 230) hx hb dX3_why_186 (by decide) ?_
            exact J230_5 _ _ _ 2 (((if_pos c_6).symm).trans (if_pos c_4).symm) hP hS (lv_sub hl [0, 1, 2, 3, 4, 5, 6, 7] rfl)
          refine lv_iconst (v := 1) hx hb dX3_why_177 (by decide) ?_
          refine lv_goto (tgt := 230) hx hb dX3_why_178 (by decide) ?_
          exact J230_5 _ _ _ 1 ((if_neg c_4).symm) hP hS (lv_sub hl [0, 1, 2, 3, 4, 5, 6, 7] rfl)
        refine lv_aload_n hx hb dX3_why_57 rfl (lv_at hl 6 rfl) ?_
        refine lv_aload_n hx hb dX3_why_58 rfl (lv_at hl 6 rfl) ?_
        refine mk_get hAt hK hP 10 (by decide) (v := .ref (ad 7)) rfl (hts _ q800) rfl dX3_why_59 ?_
        refine lv_iload hx hb dX3_why_62 (lv_at hl 0 rfl) ?_
        refine mk_iald hAt hK hP 7 (f := σ 6) rfl i48 (by omega) (by decide) dX3_why_64 ?_
        refine lv_aload_n hx hb dX3_why_65 rfl (lv_at hl 6 rfl) ?_
        refine mk_get hAt hK hP 14 (by decide) (v := .ref (ad 10)) rfl (hts _ q804) rfl dX3_why_66 ?_
        refine lv_iload_n hx hb dX3_why_69 rfl (lv_at hl 7 rfl) ?_
        refine mk_iald hAt hK hP 10 (f := σ 9) rfl b (by omega) (by decide) dX3_why_70 ?_
        refine mk_ciV hAt hK hP hA hS (As := [.int (σ 6 i48), .int (σ 9 b)]) (rest := []) (m_touches l D A ad σ nw az ir n 0 hJ (σ 6 i48) (σ 9 b)) (cwV 2 hts (lw_V q944 q946 qs18 q42 q947) rfl rfl rfl cdX3_touches ⟨Nat.le_of_ble_eq_true rfl, Nat.le_of_ble_eq_true rfl⟩) rfl hl.1 rfl (Nat.le_of_ble_eq_true rfl) dX3_why_71 ⟨Nat.le_refl _, Nat.le_refl _⟩ (fun r H locs hq hS => ?_)
        obtain ⟨rfl, hP⟩ := hq
        have J163_12 : ∀ (H : Heap) (locs : List Loc) (ls : Array Slot) (v6 : Int32) (v5 : Int32) (v4 : Int32) (v3 : Int32) (v2 : Int32), v6 = (if mk_tch σ (σ 6 i48) (σ 9 b) then ((mk_why5 σ nw b i48) + (xk_b (nw i48 = 3 ∧ σ 7 i48 = 0))) else mk_why5 σ nw b i48) → v5 = (if mk_tch σ (σ 6 i48) (σ 9 b) then ((mk_why4 σ nw b i48) + (xk_b (nw i48 = 3))) else mk_why4 σ nw b i48) → v4 = (if mk_tch σ (σ 6 i48) (σ 9 b) then ((mk_why3 σ nw b i48) + (xk_b (nw i48 = 4))) else mk_why3 σ nw b i48) → v3 = (if mk_tch σ (σ 6 i48) (σ 9 b) then ((mk_why2 σ nw b i48) + (xk_b (¬ (1 < nw i48)))) else mk_why2 σ nw b i48) → v2 = (if mk_tch σ (σ 6 i48) (σ 9 b) then (mk_why1 σ b i48 + 1) else mk_why1 σ b i48) → mP D ad σ nw az ir n 0 H → va_S A s.heap H locs → lv_has ls 9 [(6, .int v6), (5, .int v5), (4, .int v4), (3, .int v3), (2, .int v2), (7, .int (nI i48)), (0, .ref (ad 0)), (1, .int (nI b))] → W p l e (xk_R 3 67) s m args below meth c H locs 0 0 Q (F0 m 163 ls []) := by
          intro H locs ls v6 v5 v4 v3 v2 ev6 ev5 ev4 ev3 ev2 hP hS hl
          subst ev6
          subst ev5
          subst ev4
          subst ev3
          subst ev2
          refine lv_iinc (v := nI (i48 + 1)) (lv' := [(7, .int (nI (i48 + 1))), (6, .int (if mk_tch σ (σ 6 i48) (σ 9 b) then ((mk_why5 σ nw b i48) + (xk_b (nw i48 = 3 ∧ σ 7 i48 = 0))) else mk_why5 σ nw b i48)), (5, .int (if mk_tch σ (σ 6 i48) (σ 9 b) then ((mk_why4 σ nw b i48) + (xk_b (nw i48 = 3))) else mk_why4 σ nw b i48)), (4, .int (if mk_tch σ (σ 6 i48) (σ 9 b) then ((mk_why3 σ nw b i48) + (xk_b (nw i48 = 4))) else mk_why3 σ nw b i48)), (3, .int (if mk_tch σ (σ 6 i48) (σ 9 b) then ((mk_why2 σ nw b i48) + (xk_b (¬ (1 < nw i48)))) else mk_why2 σ nw b i48)), (2, .int (if mk_tch σ (σ 6 i48) (σ 9 b) then (mk_why1 σ b i48 + 1) else mk_why1 σ b i48)), (0, .ref (ad 0)), (1, .int (nI b))]) hx hb dX3_why_163 hl (k := 5) rfl (xk_inc i48) (by decide) rfl (fun ls hl => ?_)
          refine lv_goto (tgt := 48) hx hb dX3_why_166 (by decide) ?_
          exact ih48 (i48 + 1) (by omega) (by omega)  _ _ _ (if mk_tch σ (σ 6 i48) (σ 9 b) then (mk_why1 σ b i48 + 1) else mk_why1 σ b i48) (if mk_tch σ (σ 6 i48) (σ 9 b) then ((mk_why2 σ nw b i48) + (xk_b (¬ (1 < nw i48)))) else mk_why2 σ nw b i48) (if mk_tch σ (σ 6 i48) (σ 9 b) then ((mk_why3 σ nw b i48) + (xk_b (nw i48 = 4))) else mk_why3 σ nw b i48) (if mk_tch σ (σ 6 i48) (σ 9 b) then ((mk_why4 σ nw b i48) + (xk_b (nw i48 = 3))) else mk_why4 σ nw b i48) (if mk_tch σ (σ 6 i48) (σ 9 b) then ((mk_why5 σ nw b i48) + (xk_b (nw i48 = 3 ∧ σ 7 i48 = 0))) else mk_why5 σ nw b i48) (rfl) (rfl) (rfl) (rfl) (rfl) hP hS (lv_sub hl [0, 1, 2, 3, 4, 5, 6, 7] rfl)
        refine xk_ifeq (tgt := 163) hx hb dX3_why_74 (by decide) (fun c_11 => ?_) (fun c_11 => ?_)
        · skip
          exact J163_12 _ _ _ (mk_why5 σ nw b i48) (mk_why4 σ nw b i48) (mk_why3 σ nw b i48) (mk_why2 σ nw b i48) (mk_why1 σ b i48) ((if_neg c_11).symm) ((if_neg c_11).symm) ((if_neg c_11).symm) ((if_neg c_11).symm) ((if_neg c_11).symm) hP hS (lv_sub hl [1, 2, 3, 4, 5, 0, 6, 7] rfl)
        refine lv_aload_n hx hb dX3_why_77 rfl (lv_at hl 6 rfl) ?_
        refine mk_get hAt hK hP 16 (by decide) (v := .ref (ad 12)) rfl (hts _ q806) rfl dX3_why_78 ?_
        refine lv_iconst (v := 0) hx hb dX3_why_81 (by decide) ?_
        refine lv_iload hx hb dX3_why_82 (lv_at hl 0 rfl) ?_
        refine lv_iadd hx hb dX3_why_84 ?_
        refine xk_to (y := nI i48) (xk_0 i48) ?_
        refine mk_iald hAt hK hP 12 (f := nw) rfl i48 (by omega) (by decide) dX3_why_85 ?_
        refine lv_istore (lv' := [(8, .int (nw i48)), (7, .int (nI i48)), (6, .int (mk_why5 σ nw b i48)), (5, .int (mk_why4 σ nw b i48)), (4, .int (mk_why3 σ nw b i48)), (3, .int (mk_why2 σ nw b i48)), (2, .int (mk_why1 σ b i48)), (0, .ref (ad 0)), (1, .int (nI b))]) hx hb dX3_why_86 hl (by decide) rfl (fun ls hl => ?_)
        refine lv_iinc (v := (mk_why1 σ b i48 + 1)) (lv' := [(2, .int (mk_why1 σ b i48 + 1)), (8, .int (nw i48)), (7, .int (nI i48)), (6, .int (mk_why5 σ nw b i48)), (5, .int (mk_why4 σ nw b i48)), (4, .int (mk_why3 σ nw b i48)), (3, .int (mk_why2 σ nw b i48)), (0, .ref (ad 0)), (1, .int (nI b))]) hx hb dX3_why_88 hl (k := 6) rfl rfl (by decide) rfl (fun ls hl => ?_)
        refine lv_iload_n hx hb dX3_why_91 rfl (lv_at hl 6 rfl) ?_
        refine lv_iload hx hb dX3_why_92 (lv_at hl 1 rfl) ?_
        refine lv_iconst (v := 1) hx hb dX3_why_94 (by decide) ?_
        have J103_14 : ∀ (H : Heap) (locs : List Loc) (ls : Array Slot) (t0 : Int32), t0 = xk_b (¬ (1 < nw i48)) → mP D ad σ nw az ir n 0 H → va_S A s.heap H locs → lv_has ls 9 [(2, .int (mk_why1 σ b i48 + 1)), (8, .int (nw i48)), (7, .int (nI i48)), (6, .int (mk_why5 σ nw b i48)), (5, .int (mk_why4 σ nw b i48)), (4, .int (mk_why3 σ nw b i48)), (3, .int (mk_why2 σ nw b i48)), (0, .ref (ad 0)), (1, .int (nI b))] → W p l e (xk_R 3 67) s m args below meth c H locs 0 0 Q (F0 m 103 ls [.int t0, .int (mk_why2 σ nw b i48)]) := by
          intro H locs ls t0 et0 hP hS hl
          subst et0
          refine lv_iadd hx hb dX3_why_103 ?_
          refine lv_istore_n (lv' := [(3, .int ((mk_why2 σ nw b i48) + (xk_b (¬ (1 < nw i48))))), (2, .int (mk_why1 σ b i48 + 1)), (8, .int (nw i48)), (7, .int (nI i48)), (6, .int (mk_why5 σ nw b i48)), (5, .int (mk_why4 σ nw b i48)), (4, .int (mk_why3 σ nw b i48)), (0, .ref (ad 0)), (1, .int (nI b))]) hx hb dX3_why_104 rfl hl (by decide) rfl (fun ls hl => ?_)
          refine lv_iload hx hb dX3_why_105 (lv_at hl 6 rfl) ?_
          refine lv_iload hx hb dX3_why_107 (lv_at hl 2 rfl) ?_
          refine lv_iconst (v := 4) hx hb dX3_why_109 (by decide) ?_
          have J118_16 : ∀ (H : Heap) (locs : List Loc) (ls : Array Slot) (t0 : Int32), t0 = xk_b (nw i48 = 4) → mP D ad σ nw az ir n 0 H → va_S A s.heap H locs → lv_has ls 9 [(3, .int ((mk_why2 σ nw b i48) + (xk_b (¬ (1 < nw i48))))), (2, .int (mk_why1 σ b i48 + 1)), (8, .int (nw i48)), (7, .int (nI i48)), (6, .int (mk_why5 σ nw b i48)), (5, .int (mk_why4 σ nw b i48)), (4, .int (mk_why3 σ nw b i48)), (0, .ref (ad 0)), (1, .int (nI b))] → W p l e (xk_R 3 67) s m args below meth c H locs 0 0 Q (F0 m 118 ls [.int t0, .int (mk_why3 σ nw b i48)]) := by
            intro H locs ls t0 et0 hP hS hl
            subst et0
            refine lv_iadd hx hb dX3_why_118 ?_
            refine lv_istore (lv' := [(4, .int ((mk_why3 σ nw b i48) + (xk_b (nw i48 = 4)))), (3, .int ((mk_why2 σ nw b i48) + (xk_b (¬ (1 < nw i48))))), (2, .int (mk_why1 σ b i48 + 1)), (8, .int (nw i48)), (7, .int (nI i48)), (6, .int (mk_why5 σ nw b i48)), (5, .int (mk_why4 σ nw b i48)), (0, .ref (ad 0)), (1, .int (nI b))]) hx hb dX3_why_119 hl (by decide) rfl (fun ls hl => ?_)
            refine lv_iload hx hb dX3_why_121 (lv_at hl 6 rfl) ?_
            refine lv_iload hx hb dX3_why_123 (lv_at hl 3 rfl) ?_
            refine lv_iconst (v := 3) hx hb dX3_why_125 (by decide) ?_
            have J134_18 : ∀ (H : Heap) (locs : List Loc) (ls : Array Slot) (t0 : Int32), t0 = xk_b (nw i48 = 3) → mP D ad σ nw az ir n 0 H → va_S A s.heap H locs → lv_has ls 9 [(4, .int ((mk_why3 σ nw b i48) + (xk_b (nw i48 = 4)))), (3, .int ((mk_why2 σ nw b i48) + (xk_b (¬ (1 < nw i48))))), (2, .int (mk_why1 σ b i48 + 1)), (8, .int (nw i48)), (7, .int (nI i48)), (6, .int (mk_why5 σ nw b i48)), (5, .int (mk_why4 σ nw b i48)), (0, .ref (ad 0)), (1, .int (nI b))] → W p l e (xk_R 3 67) s m args below meth c H locs 0 0 Q (F0 m 134 ls [.int t0, .int (mk_why4 σ nw b i48)]) := by
              intro H locs ls t0 et0 hP hS hl
              subst et0
              refine lv_iadd hx hb dX3_why_134 ?_
              refine lv_istore (lv' := [(5, .int ((mk_why4 σ nw b i48) + (xk_b (nw i48 = 3)))), (4, .int ((mk_why3 σ nw b i48) + (xk_b (nw i48 = 4)))), (3, .int ((mk_why2 σ nw b i48) + (xk_b (¬ (1 < nw i48))))), (2, .int (mk_why1 σ b i48 + 1)), (8, .int (nw i48)), (7, .int (nI i48)), (6, .int (mk_why5 σ nw b i48)), (0, .ref (ad 0)), (1, .int (nI b))]) hx hb dX3_why_135 hl (by decide) rfl (fun ls hl => ?_)
              refine lv_iload hx hb dX3_why_137 (lv_at hl 6 rfl) ?_
              refine lv_iload hx hb dX3_why_139 (lv_at hl 4 rfl) ?_
              refine lv_iconst (v := 3) hx hb dX3_why_141 (by decide) ?_
              have J160_20 : ∀ (H : Heap) (locs : List Loc) (ls : Array Slot) (t0 : Int32), t0 = xk_b (nw i48 = 3 ∧ σ 7 i48 = 0) → mP D ad σ nw az ir n 0 H → va_S A s.heap H locs → lv_has ls 9 [(5, .int ((mk_why4 σ nw b i48) + (xk_b (nw i48 = 3)))), (4, .int ((mk_why3 σ nw b i48) + (xk_b (nw i48 = 4)))), (3, .int ((mk_why2 σ nw b i48) + (xk_b (¬ (1 < nw i48))))), (2, .int (mk_why1 σ b i48 + 1)), (8, .int (nw i48)), (7, .int (nI i48)), (6, .int (mk_why5 σ nw b i48)), (0, .ref (ad 0)), (1, .int (nI b))] → W p l e (xk_R 3 67) s m args below meth c H locs 0 0 Q (F0 m 160 ls [.int t0, .int (mk_why5 σ nw b i48)]) := by
                intro H locs ls t0 et0 hP hS hl
                subst et0
                refine lv_iadd hx hb dX3_why_160 ?_
                refine lv_istore (lv' := [(6, .int ((mk_why5 σ nw b i48) + (xk_b (nw i48 = 3 ∧ σ 7 i48 = 0)))), (5, .int ((mk_why4 σ nw b i48) + (xk_b (nw i48 = 3)))), (4, .int ((mk_why3 σ nw b i48) + (xk_b (nw i48 = 4)))), (3, .int ((mk_why2 σ nw b i48) + (xk_b (¬ (1 < nw i48))))), (2, .int (mk_why1 σ b i48 + 1)), (8, .int (nw i48)), (7, .int (nI i48)), (0, .ref (ad 0)), (1, .int (nI b))]) hx hb dX3_why_161 hl (by decide) rfl (fun ls hl => ?_)
                exact J163_12 _ _ _ ((mk_why5 σ nw b i48) + (xk_b (nw i48 = 3 ∧ σ 7 i48 = 0))) ((mk_why4 σ nw b i48) + (xk_b (nw i48 = 3))) ((mk_why3 σ nw b i48) + (xk_b (nw i48 = 4))) ((mk_why2 σ nw b i48) + (xk_b (¬ (1 < nw i48)))) (mk_why1 σ b i48 + 1) ((if_pos c_11).symm) ((if_pos c_11).symm) ((if_pos c_11).symm) ((if_pos c_11).symm) ((if_pos c_11).symm) hP hS (lv_sub hl [0, 1, 2, 3, 4, 6, 7, 8] rfl)
              refine lv_icmp_ne (tgt := 159) hx hb dX3_why_142 (by decide) (fun c_19 => ?_) (fun c_19 => ?_)
              · skip
                refine lv_iconst (v := 0) hx hb dX3_why_159 (by decide) ?_
                exact J160_20 _ _ _ 0 ((if_neg (fun h => c_19 h.1)).symm) hP hS (lv_sub hl [0, 1, 2, 3, 4, 5, 6, 7, 8] rfl)
              refine lv_aload_n hx hb dX3_why_145 rfl (lv_at hl 7 rfl) ?_
              refine mk_get hAt hK hP 11 (by decide) (v := .ref (ad 8)) rfl (hts _ q801) rfl dX3_why_146 ?_
              refine lv_iload hx hb dX3_why_149 (lv_at hl 5 rfl) ?_
              refine mk_iald hAt hK hP 8 (f := σ 7) rfl i48 (by omega) (by decide) dX3_why_151 ?_
              refine lv_if_ne (tgt := 159) hx hb dX3_why_152 (by decide) (fun c_21 => ?_) (fun c_21 => ?_)
              · skip
                refine lv_iconst (v := 0) hx hb dX3_why_159 (by decide) ?_
                exact J160_20 _ _ _ 0 ((if_neg (fun h => c_21 h.2)).symm) hP hS (lv_sub hl [0, 1, 2, 3, 4, 5, 6, 7, 8] rfl)
              refine lv_iconst (v := 1) hx hb dX3_why_155 (by decide) ?_
              refine lv_goto (tgt := 160) hx hb dX3_why_156 (by decide) ?_
              exact J160_20 _ _ _ 1 ((if_pos ⟨c_19, c_21⟩).symm) hP hS (lv_sub hl [0, 1, 2, 3, 4, 5, 6, 7, 8] rfl)
            refine lv_icmp_ne (tgt := 133) hx hb dX3_why_126 (by decide) (fun c_17 => ?_) (fun c_17 => ?_)
            · skip
              refine lv_iconst (v := 0) hx hb dX3_why_133 (by decide) ?_
              exact J134_18 _ _ _ 0 ((if_neg c_17).symm) hP hS (lv_sub hl [0, 1, 2, 3, 4, 5, 6, 7, 8] rfl)
            refine lv_iconst (v := 1) hx hb dX3_why_129 (by decide) ?_
            refine lv_goto (tgt := 134) hx hb dX3_why_130 (by decide) ?_
            exact J134_18 _ _ _ 1 ((if_pos c_17).symm) hP hS (lv_sub hl [0, 1, 2, 3, 4, 5, 6, 7, 8] rfl)
          refine lv_icmp_ne (tgt := 117) hx hb dX3_why_110 (by decide) (fun c_15 => ?_) (fun c_15 => ?_)
          · skip
            refine lv_iconst (v := 0) hx hb dX3_why_117 (by decide) ?_
            exact J118_16 _ _ _ 0 ((if_neg c_15).symm) hP hS (lv_sub hl [0, 1, 2, 3, 4, 5, 6, 7, 8] rfl)
          refine lv_iconst (v := 1) hx hb dX3_why_113 (by decide) ?_
          refine lv_goto (tgt := 118) hx hb dX3_why_114 (by decide) ?_
          exact J118_16 _ _ _ 1 ((if_pos c_15).symm) hP hS (lv_sub hl [0, 1, 2, 3, 4, 5, 6, 7, 8] rfl)
        refine lv_icmp_gt (tgt := 102) hx hb dX3_why_95 (by decide) (fun c_13 => ?_) (fun c_13 => ?_)
        · skip
          refine lv_iconst (v := 0) hx hb dX3_why_102 (by decide) ?_
          exact J103_14 _ _ _ 0 ((if_neg (fun h => h c_13)).symm) hP hS (lv_sub hl [0, 1, 2, 3, 4, 5, 6, 7, 8] rfl)
        refine lv_iconst (v := 1) hx hb dX3_why_98 (by decide) ?_
        refine lv_goto (tgt := 103) hx hb dX3_why_99 (by decide) ?_
        exact J103_14 _ _ _ 1 ((if_pos c_13).symm) hP hS (lv_sub hl [0, 1, 2, 3, 4, 5, 6, 7, 8] rfl)
    exact L48 (n 3 + 1) 0 (by omega) (by omega)  _ _ _ 0 0 0 0 0 (rfl) (rfl) (rfl) (rfl) (rfl) hP hS (lv_sub hl [0, 1, 2, 3, 4, 5, 6, 7] rfl)
  exact absurd (by decide) c_2
set_option maxHeartbeats 4000000 in
theorem m_sum (l : Launch) (D : xk_G) (A : Nat → Prop) (ad : Nat → Nat) (σ : Nat → Nat → Int32) (nw az ir : Nat → Int32) (n : Nat → Nat) (th : Int32) (hJ : mk_ok A ad) (h4m : n 4 ≤ 8) (x : Int32) : Met l yX3_sum (ws_ yX3_sum cX3_sum 2 (some .int)) (xk_R 2 45) (xk_Pre D A (mP D ad σ nw az ir n th) [.ref (ad 0), .int x]) (xk_Pi A (fun r H => r = (if mk_tSum x = 0 then mk_sumOf nw n x else 0) ∧ mP D ad σ nw az ir n (mk_tSum x) H)) 0 0 A := by
  refine xk_startI (by decide +kernel) (Nat.le_of_ble_eq_true rfl) ?_
  intro p e s m args below meth c Q hAt hin hK hA hP hR ls hl
  obtain ⟨hx, hb, hml, hown, hts⟩ := id hAt
  have hl : lv_has ls 2 [(0, .ref (ad 0)), (1, .int x)] := hl
  have hS : va_S A s.heap s.heap [] := va_S.rf
  refine lv_aload_n hx hb dX3_sum_0 rfl (lv_at hl 0 rfl) ?_
  refine lv_iload_n hx hb dX3_sum_1 rfl (lv_at hl 1 rfl) ?_
  refine lv_iconst (v := 0) hx hb dX3_sum_2 (by decide) ?_
  refine lv_iconst (v := 5) hx hb dX3_sum_3 (by decide) ?_
  refine mk_ciS hAt hK (P := mP D ad σ nw az ir n th) hP hA hS (As := [.int x, .int 0, .int 5]) (rest := [.ref (ad 0)]) (m_in l D A (mP D ad σ nw az ir n th) x 0 5) (va_cwS 3 hts (lw_S q863 q864 q42 q865) rfl rfl rfl cdX3_in ⟨Nat.le_of_ble_eq_true rfl, Nat.le_of_ble_eq_true rfl⟩) rfl hl.1 rfl (Nat.le_of_ble_eq_true rfl) dX3_sum_4 ⟨Nat.le_refl _, Nat.le_refl _⟩ (fun r H locs hq hS => ?_)
  obtain ⟨rfl, hP⟩ := hq
  have J15_2 : ∀ (H : Heap) (locs : List Loc) (ls : Array Slot) (t0 : Int32), t0 = xk_b (¬ (mk_in x 0 5)) → mP D ad σ nw az ir n th H → va_S A s.heap H locs → lv_has ls 2 [(0, .ref (ad 0)), (1, .int x)] → W p l e (xk_R 2 45) s m args below meth c H locs 0 0 Q (F0 m 15 ls [.int t0, .ref (ad 0)]) := by
    intro H locs ls t0 et0 hP hS hl
    subst et0
    refine mk_put hAt hK hJ hP hS 18 (by decide) (hts _ q808) rfl rfl (ty := .int) (by decide +kernel) rfl rfl (ad' := ad) (n' := n) (th' := xk_b (¬ (mk_in x 0 5))) rfl rfl dX3_sum_15 (fun H locs hP hS => ?_)
    have hP : mP D ad σ nw az ir n (xk_b (¬ (mk_in x 0 5))) H := hP
    have hP : mP D ad σ nw az ir n (mk_tSum x) H := hP
    refine lv_aload_n hx hb dX3_sum_18 rfl (lv_at hl 0 rfl) ?_
    refine mk_get hAt hK hP 18 (by decide) (v := .int (mk_tSum x)) rfl (hts _ q808) rfl dX3_sum_19 ?_
    have J34_4 : ∀ (H : Heap) (locs : List Loc) (ls : Array Slot) (t0 : Int32), t0 = (if mk_tSum x = 0 then mk_sumOf nw n x else 0) → mP D ad σ nw az ir n (mk_tSum x) H → va_S A s.heap H locs → lv_has ls 2 [(0, .ref (ad 0)), (1, .int x)] → W p l e (xk_R 2 45) s m args below meth c H locs 0 0 Q (F0 m 34 ls [.int t0]) := by
      intro H locs ls t0 et0 hP hS hl
      subst et0
      exact hR _ _ _ _ _ dX3_sum_34 (⟨rfl, hP⟩) hS
    refine lv_if_ne (tgt := 33) hx hb dX3_sum_22 (by decide) (fun c_3 => ?_) (fun c_3 => ?_)
    · skip
      refine lv_iconst (v := 0) hx hb dX3_sum_33 (by decide) ?_
      exact J34_4 _ _ _ 0 ((if_neg c_3).symm) hP hS (lv_sub hl [0, 1] rfl)
    refine lv_aload_n hx hb dX3_sum_25 rfl (lv_at hl 0 rfl) ?_
    refine lv_iload_n hx hb dX3_sum_26 rfl (lv_at hl 1 rfl) ?_
    refine mk_ciV hAt hK hP hA hS (As := [.int x]) (rest := []) (m_sumOf l D A ad σ nw az ir n (mk_tSum x) hJ (by assumption) x) (cwV 1 hts (lw_V q1008 q1010 qs32 q42 q1011) rfl rfl rfl cdX3_sumOf ⟨Nat.le_of_ble_eq_true rfl, Nat.le_of_ble_eq_true rfl⟩) rfl hl.1 rfl (Nat.le_of_ble_eq_true rfl) dX3_sum_27 ⟨Nat.le_refl _, Nat.le_refl _⟩ (fun r H locs hq hS => ?_)
    obtain ⟨rfl, hP⟩ := hq
    refine lv_goto (tgt := 34) hx hb dX3_sum_30 (by decide) ?_
    exact J34_4 _ _ _ (mk_sumOf nw n x) ((if_pos c_3).symm) hP hS (lv_sub hl [0, 1] rfl)
  refine xk_ifeq (tgt := 14) hx hb dX3_sum_7 (by decide) (fun c_1 => ?_) (fun c_1 => ?_)
  · skip
    refine lv_iconst (v := 1) hx hb dX3_sum_14 (by decide) ?_
    exact J15_2 _ _ _ 1 ((if_pos c_1).symm) hP hS (lv_sub hl [0, 1] rfl)
  refine lv_iconst (v := 0) hx hb dX3_sum_10 (by decide) ?_
  refine lv_goto (tgt := 15) hx hb dX3_sum_11 (by decide) ?_
  exact J15_2 _ _ _ 0 ((if_neg (fun h => h c_1)).symm) hP hS (lv_sub hl [0, 1] rfl)
