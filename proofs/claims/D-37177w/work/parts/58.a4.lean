/-! THE BODY draws (printed by gen/model.py) -/
set_option maxRecDepth 100000
theorem cdvX2_add : yX2_add.cls = RX2 ∧ yX2_add.cls ≠ "java/lang/invoke/MethodHandle" ∧ yX2_add.cls ≠ "java/lang/invoke/VarHandle" ∧ (parseMethodDescriptor yX2_add.desc).map (fun d => d.parameters.length) = some 1 := by decide +kernel
set_option maxHeartbeats 4000000 in
theorem a_draw (l : Launch) (D : xk_G) (A : Nat → Prop) (ad : Nat → Nat) (σ : Nat → Nat → Int32) (nw : Nat → Int32) (n : Nat → Nat) (hJ : bk_ok A ad n) (hn0 : bk_n n) (a b : Nat) (ha : a < n 1) (hb2 : b < n 2) (z h : Int32) (hz0 : mk_in z 0 3) (hst : ¬ (40 ≤ n 3)) : Met l yX1_draw (ws_ yX1_draw cX1_draw 9 (some .int)) (xk_Rm 9 350 2 97) (xe_Pre D A (bP D ad (ad 100) σ nw n) [.ref (ad 0), .int (nI a), .int (nI b), .int z, .int h]) (xk_Pi A (fun r H => r = nI (n 3) ∧ ∃ ad9 : Nat → Nat, ad9 0 = ad 0 ∧ bk_ok A ad9 (va_up n 3 (n 3 + 1)) ∧ bP D ad9 (ad9 100) (mk_addS σ (n 3) (bk_lock σ a b z) (bk_kind σ n (bk_lock σ a b z) h) (-1)) (bk_newc nw (n 3) (mk_school σ (mk_near σ n (bk_lock σ a b z))) (xk_b ((mk_school σ (mk_near σ n (bk_lock σ a b z))) = 2)) 0) (va_up n 3 (n 3 + 1)) H)) 2 97 A := by
  refine xe_startI (by decide +kernel) (Nat.le_of_ble_eq_true rfl) ?_
  intro p e s m args below meth c Q hAt hin hK hE hA hP hR ls hl
  obtain ⟨hx, hb, hml, hown, hts⟩ := id hAt
  have hl : lv_has ls 9 [(0, .ref (ad 0)), (1, .int (nI a)), (2, .int (nI b)), (3, .int z), (4, .int h)] := hl
  have hS : va_S A s.heap s.heap [] := va_S.rf
  obtain ⟨h0m, h1m, h2m, h3m, h4m⟩ := id hn0
  refine lv_iload_n hx hb dX1_draw_0 rfl (lv_at hl 1 rfl) ?_
  refine lv_aload_n hx hb dX1_draw_1 rfl (lv_at hl 0 rfl) ?_
  refine xk_getO hAt hK (b0 hP) (C := RX1) (T := TX1) (N := 6) rfl 3 (by decide) (v := .ref (ad 8)) rfl (hts _ q140) (fun _ h => h) in_X1 dX1_draw_2 ?_
  refine xk_ciF hAt hK (P := bP D ad (ad 100) σ nw n) hP hA hS (xk_recvL hK (bsg hP)) (As := []) (rest := [.int (nI a)]) (al_size l D A (bP D ad (ad 100) σ nw n) (ad 8) (ad 11) (n 1) (fun j => ad (30 + j)) (fun _ h => bsg h)) (va_cwF 0 hts (xk_lwF q236 q240 q242 q40 q244) rfl rfl rfl hK.2.2.1 (by decide +kernel) ⟨Nat.le_of_ble_eq_true rfl, Nat.le_of_ble_eq_true rfl⟩) rfl hl.1 rfl (Nat.le_of_ble_eq_true rfl) dX1_draw_5 ⟨Nat.le_of_ble_eq_true rfl, Nat.le_of_ble_eq_true rfl⟩ (fun r H locs hq hS => ?_)
  obtain ⟨rfl, hP⟩ := hq
  refine xk_cvS hAt hK (P := bP D ad (ad 100) σ nw n) hP hA hS (As := [.int (nI a), .int (nI (n 1))]) (rest := []) (b_checkThere l D A (bP D ad (ad 100) σ nw n) a (n 1) (by omega) (by omega)) (va_cwS 2 hts (lw_S q479 q480 q37 q481) rfl rfl rfl cdX1_checkThere ⟨Nat.le_of_ble_eq_true rfl, Nat.le_of_ble_eq_true rfl⟩) rfl hl.1 rfl (Nat.le_of_ble_eq_true rfl) dX1_draw_10 ⟨Nat.le_of_ble_eq_true rfl, Nat.le_of_ble_eq_true rfl⟩ (fun H locs hP hS => ?_)
  refine lv_iload_n hx hb dX1_draw_13 rfl (lv_at hl 2 rfl) ?_
  refine lv_aload_n hx hb dX1_draw_14 rfl (lv_at hl 0 rfl) ?_
  refine xk_getO hAt hK (b0 hP) (C := RX1) (T := TX1) (N := 6) rfl 4 (by decide) (v := .ref (ad 9)) rfl (hts _ q141) (fun _ h => h) in_X1 dX1_draw_15 ?_
  refine xk_ciF hAt hK (P := bP D ad (ad 100) σ nw n) hP hA hS (xk_recvL hK (bjo hP)) (As := []) (rest := [.int (nI b)]) (al_size l D A (bP D ad (ad 100) σ nw n) (ad 9) (ad 12) (n 2) (fun j => ad (40 + j)) (fun _ h => bjo h)) (va_cwF 0 hts (xk_lwF q236 q240 q242 q40 q244) rfl rfl rfl hK.2.2.1 (by decide +kernel) ⟨Nat.le_of_ble_eq_true rfl, Nat.le_of_ble_eq_true rfl⟩) rfl hl.1 rfl (Nat.le_of_ble_eq_true rfl) dX1_draw_18 ⟨Nat.le_of_ble_eq_true rfl, Nat.le_of_ble_eq_true rfl⟩ (fun r H locs hq hS => ?_)
  obtain ⟨rfl, hP⟩ := hq
  refine xk_cvS hAt hK (P := bP D ad (ad 100) σ nw n) hP hA hS (As := [.int (nI b), .int (nI (n 2))]) (rest := []) (b_checkThere l D A (bP D ad (ad 100) σ nw n) b (n 2) (by omega) (by omega)) (va_cwS 2 hts (lw_S q479 q480 q37 q481) rfl rfl rfl cdX1_checkThere ⟨Nat.le_of_ble_eq_true rfl, Nat.le_of_ble_eq_true rfl⟩) rfl hl.1 rfl (Nat.le_of_ble_eq_true rfl) dX1_draw_23 ⟨Nat.le_of_ble_eq_true rfl, Nat.le_of_ble_eq_true rfl⟩ (fun H locs hP hS => ?_)
  refine lv_iload_n hx hb dX1_draw_26 rfl (lv_at hl 3 rfl) ?_
  refine xk_cvS hAt hK (P := bP D ad (ad 100) σ nw n) hP hA hS (As := [.int z]) (rest := []) (b_checkLetter l D A (bP D ad (ad 100) σ nw n) z (by assumption)) (va_cwS 1 hts (lw_S q311 q312 q37 q313) rfl rfl rfl cdX1_checkLetter ⟨Nat.le_of_ble_eq_true rfl, Nat.le_of_ble_eq_true rfl⟩) rfl hl.1 rfl (Nat.le_of_ble_eq_true rfl) dX1_draw_27 ⟨Nat.le_of_ble_eq_true rfl, Nat.le_of_ble_eq_true rfl⟩ (fun H locs hP hS => ?_)
  refine lv_aload_n hx hb dX1_draw_30 rfl (lv_at hl 0 rfl) ?_
  refine xk_getO hAt hK (b0 hP) (C := RX1) (T := TX1) (N := 6) rfl 5 (by decide) (v := .ref (ad 100)) rfl (hts _ q142) (fun _ h => h) in_X1 dX1_draw_31 ?_
  refine xk_getN hAt hK (b100 hP) (C := RX2) (T := TX2) (N := 7) rfl 0 (by decide) (v := .ref (ad 101)) rfl q110 (fun _ h => h) in_X2 dX1_draw_34 ?_
  refine xk_ciF hAt hK (P := bP D ad (ad 100) σ nw n) hP hA hS (xk_recvL hK (bcl hP)) (As := []) (rest := []) (al_size l D A (bP D ad (ad 100) σ nw n) (ad 101) (ad 104) (n 3) (fun j => ad (120 + j)) (fun _ h => bcl h)) (va_cwF 0 hts (xk_lwF q236 q240 q242 q40 q244) rfl rfl rfl hK.2.2.1 (by decide +kernel) ⟨Nat.le_of_ble_eq_true rfl, Nat.le_of_ble_eq_true rfl⟩) rfl hl.1 rfl (Nat.le_of_ble_eq_true rfl) dX1_draw_37 ⟨Nat.le_of_ble_eq_true rfl, Nat.le_of_ble_eq_true rfl⟩ (fun r H locs hq hS => ?_)
  obtain ⟨rfl, hP⟩ := hq
  refine lv_bipush (v := 40) hx hb dX1_draw_42 (by decide) ?_
  have J52_2 : ∀ (H : Heap) (locs : List Loc) (ls : Array Slot) (t0 : Int32), t0 = xk_b (¬ (40 ≤ n 3)) → bP D ad (ad 100) σ nw n H → va_S A s.heap H locs → lv_has ls 9 [(0, .ref (ad 0)), (1, .int (nI a)), (2, .int (nI b)), (3, .int z), (4, .int h)] → W p l e (xk_Rm 9 350 2 97) s m args below meth c H locs 0 0 Q (F0 m 52 ls [.int t0]) := by
    intro H locs ls t0 et0 hP hS hl
    subst et0
    refine xk_cvS hAt hK (P := bP D ad (ad 100) σ nw n) hP hA hS (As := [.int (xk_b (¬ (40 ≤ n 3)))]) (rest := []) (b_checkState l D A (bP D ad (ad 100) σ nw n) (¬ (40 ≤ n 3)) (by assumption)) (va_cwS 1 hts (lw_S q340 q341 q37 q342) rfl rfl rfl cdX1_checkState ⟨Nat.le_of_ble_eq_true rfl, Nat.le_of_ble_eq_true rfl⟩) rfl hl.1 rfl (Nat.le_of_ble_eq_true rfl) dX1_draw_52 ⟨Nat.le_of_ble_eq_true rfl, Nat.le_of_ble_eq_true rfl⟩ (fun H locs hP hS => ?_)
    refine lv_aload_n hx hb dX1_draw_55 rfl (lv_at hl 0 rfl) ?_
    refine lv_iload_n hx hb dX1_draw_56 rfl (lv_at hl 1 rfl) ?_
    refine lv_iload_n hx hb dX1_draw_57 rfl (lv_at hl 2 rfl) ?_
    refine lv_iload_n hx hb dX1_draw_58 rfl (lv_at hl 3 rfl) ?_
    refine xk_ciV hAt hK (P := bP D ad (ad 100) σ nw n) hP hA hS (xk_recv (q := (RX1, TX1, 6)) hK (b0 hP) rfl) (As := [.int (nI a), .int (nI b), .int z]) (rest := []) (b_lockOf l D A ad (ad 100) σ nw n (by assumption) (by assumption) a b (by omega) (by omega) z) (cwV 3 hts (lw_V q245 q247 qs1 q37 q248) rfl rfl rfl cdX1_lockOf ⟨Nat.le_of_ble_eq_true rfl, Nat.le_of_ble_eq_true rfl⟩) rfl hl.1 rfl (Nat.le_of_ble_eq_true rfl) dX1_draw_59 ⟨Nat.le_of_ble_eq_true rfl, Nat.le_of_ble_eq_true rfl⟩ (fun r H locs hq hS => ?_)
    obtain ⟨rfl, hP⟩ := hq
    refine lv_istore (lv' := [(5, .int (bk_lock σ a b z)), (0, .ref (ad 0)), (1, .int (nI a)), (2, .int (nI b)), (3, .int z), (4, .int h)]) hx hb dX1_draw_62 hl (by decide) rfl (fun ls hl => ?_)
    refine lv_aload_n hx hb dX1_draw_64 rfl (lv_at hl 1 rfl) ?_
    refine lv_iload hx hb dX1_draw_65 (lv_at hl 0 rfl) ?_
    refine xk_ciV hAt hK (P := bP D ad (ad 100) σ nw n) hP hA hS (xk_recv (q := (RX1, TX1, 6)) hK (b0 hP) rfl) (As := [.int (bk_lock σ a b z)]) (rest := []) (b_schooled l D A ad (ad 100) σ nw n (by assumption) (bk_lock σ a b z)) (cwV 1 hts (lw_V q284 q286 qs4 q37 q287) rfl rfl rfl cdX1_schooled ⟨Nat.le_of_ble_eq_true rfl, Nat.le_of_ble_eq_true rfl⟩) rfl hl.1 rfl (Nat.le_of_ble_eq_true rfl) dX1_draw_67 ⟨Nat.le_of_ble_eq_true rfl, Nat.le_of_ble_eq_true rfl⟩ (fun r H locs hq hS => ?_)
    obtain ⟨rfl, hP⟩ := hq
    refine lv_istore (lv' := [(6, .int (mk_school σ (mk_near σ n (bk_lock σ a b z)))), (5, .int (bk_lock σ a b z)), (0, .ref (ad 0)), (1, .int (nI a)), (2, .int (nI b)), (3, .int z), (4, .int h)]) hx hb dX1_draw_70 hl (by decide) rfl (fun ls hl => ?_)
    refine lv_iload hx hb dX1_draw_72 (lv_at hl 6 rfl) ?_
    have J105_4 : ∀ (H : Heap) (locs : List Loc) (ls : Array Slot) (t0 : Int32), t0 = xk_b (¬ (h = 0) ∧ (mk_school σ (mk_near σ n (bk_lock σ a b z)) = 2 ∧ ¬ (mk_near σ n (bk_lock σ a b z) < ((σ 1 1) - 2)))) → bP D ad (ad 100) σ nw n H → va_S A s.heap H locs → lv_has ls 9 [(6, .int (mk_school σ (mk_near σ n (bk_lock σ a b z)))), (5, .int (bk_lock σ a b z)), (0, .ref (ad 0)), (1, .int (nI a)), (2, .int (nI b)), (3, .int z), (4, .int h)] → W p l e (xk_Rm 9 350 2 97) s m args below meth c H locs 0 0 Q (F0 m 105 ls [.int t0]) := by
      intro H locs ls t0 et0 hP hS hl
      subst et0
      refine lv_istore (lv' := [(7, .int (xk_b (¬ (h = 0) ∧ (mk_school σ (mk_near σ n (bk_lock σ a b z)) = 2 ∧ ¬ (mk_near σ n (bk_lock σ a b z) < ((σ 1 1) - 2)))))), (6, .int (mk_school σ (mk_near σ n (bk_lock σ a b z)))), (5, .int (bk_lock σ a b z)), (0, .ref (ad 0)), (1, .int (nI a)), (2, .int (nI b)), (3, .int z), (4, .int h)]) hx hb dX1_draw_105 hl (by decide) rfl (fun ls hl => ?_)
      refine lv_iload hx hb dX1_draw_107 (lv_at hl 0 rfl) ?_
      have J126_6 : ∀ (H : Heap) (locs : List Loc) (ls : Array Slot) (t0 : Int32), t0 = (if ¬ (h = 0) ∧ (mk_school σ (mk_near σ n (bk_lock σ a b z)) = 2 ∧ ¬ (mk_near σ n (bk_lock σ a b z) < ((σ 1 1) - 2))) then 2 else (if h = 0 then 0 else 1)) → bP D ad (ad 100) σ nw n H → va_S A s.heap H locs → lv_has ls 9 [(7, .int (xk_b (¬ (h = 0) ∧ (mk_school σ (mk_near σ n (bk_lock σ a b z)) = 2 ∧ ¬ (mk_near σ n (bk_lock σ a b z) < ((σ 1 1) - 2)))))), (6, .int (mk_school σ (mk_near σ n (bk_lock σ a b z)))), (5, .int (bk_lock σ a b z)), (0, .ref (ad 0)), (1, .int (nI a)), (2, .int (nI b)), (3, .int z), (4, .int h)] → W p l e (xk_Rm 9 350 2 97) s m args below meth c H locs 0 0 Q (F0 m 126 ls [.int t0]) := by
        intro H locs ls t0 et0 hP hS hl
        subst et0
        refine lv_istore (lv' := [(8, .int (if ¬ (h = 0) ∧ (mk_school σ (mk_near σ n (bk_lock σ a b z)) = 2 ∧ ¬ (mk_near σ n (bk_lock σ a b z) < ((σ 1 1) - 2))) then 2 else (if h = 0 then 0 else 1))), (7, .int (xk_b (¬ (h = 0) ∧ (mk_school σ (mk_near σ n (bk_lock σ a b z)) = 2 ∧ ¬ (mk_near σ n (bk_lock σ a b z) < ((σ 1 1) - 2)))))), (6, .int (mk_school σ (mk_near σ n (bk_lock σ a b z)))), (5, .int (bk_lock σ a b z)), (0, .ref (ad 0)), (1, .int (nI a)), (2, .int (nI b)), (3, .int z), (4, .int h)]) hx hb dX1_draw_126 hl (by decide) rfl (fun ls hl => ?_)
        have hl : lv_has ls 9 [(8, .int (bk_kind σ n (bk_lock σ a b z) h)), (7, .int (xk_b (¬ (h = 0) ∧ (mk_school σ (mk_near σ n (bk_lock σ a b z)) = 2 ∧ ¬ (mk_near σ n (bk_lock σ a b z) < ((σ 1 1) - 2)))))), (6, .int (mk_school σ (mk_near σ n (bk_lock σ a b z)))), (5, .int (bk_lock σ a b z)), (0, .ref (ad 0)), (1, .int (nI a)), (2, .int (nI b)), (3, .int z), (4, .int h)] := hl
        refine lv_aload_n hx hb dX1_draw_128 rfl (lv_at hl 4 rfl) ?_
        refine xk_getO hAt hK (b0 hP) (C := RX1) (T := TX1) (N := 6) rfl 5 (by decide) (v := .ref (ad 100)) rfl (hts _ q142) (fun _ h => h) in_X1 dX1_draw_129 ?_
        have hS0 := hS
        refine xe_new hAt hK hS (ci := 3) (C := RX4) (T := TX4) (N := 7) in_X4 tyX4 tyX4_ok (hts _ q525) (hts _ q526) (hts _ q60) rfl (fs := [.int 0, .int 0, .int 0, .int 0, .int 0, .int 0, .int 0]) e_dfX4 (Nat.le_of_ble_eq_true rfl) (Nat.le_of_ble_eq_true rfl) dX1_draw_132 (fun q5 H5 eq5 hO hz5 hF5 hS => ?_)
        have hq5 : ∀ x, bk_dom n x → q5 ≠ ad x := fun x hx z => by rw [eq5] at z; exact absurd (bP_lt hP x hx) (by omega)
        have hA5 : A q5 := hA q5 (by rw [eq5]; exact hS0.1)
        have hP := bP_keep hP (fun x hx => hF5 (ad x) (bP_lt hP x hx))
        refine lv_dup hx hb dX1_draw_135 rfl ?_
        refine lv_aload_n hx hb dX1_draw_136 rfl (lv_at hl 4 rfl) ?_
        refine xk_getO hAt hK (b0 hP) (C := RX1) (T := TX1) (N := 6) rfl 5 (by decide) (v := .ref (ad 100)) rfl (hts _ q142) (fun _ h => h) in_X1 dX1_draw_137 ?_
        refine xk_getN hAt hK (b100 hP) (C := RX2) (T := TX2) (N := 7) rfl 0 (by decide) (v := .ref (ad 101)) rfl q110 (fun _ h => h) in_X2 dX1_draw_140 ?_
        refine xk_ciF hAt hK (P := fun G => G = H5) rfl hA hS (xk_recvL hK (bcl hP)) (As := []) (rest := [.ref q5, .ref q5, .ref (ad 100)]) (al_size l D A (fun G => G = H5) (ad 101) (ad 104) (n 3) (fun j => ad (120 + j)) (fun _ h => by rw [h]; exact bcl hP)) (va_cwF 0 hts (xk_lwF q236 q240 q242 q40 q244) rfl rfl rfl hK.2.2.1 (by decide +kernel) ⟨Nat.le_of_ble_eq_true rfl, Nat.le_of_ble_eq_true rfl⟩) rfl hl.1 rfl (Nat.le_of_ble_eq_true rfl) dX1_draw_143 ⟨Nat.le_of_ble_eq_true rfl, Nat.le_of_ble_eq_true rfl⟩ (fun r H locs hq hS => ?_)
        obtain ⟨rfl, hH⟩ := hq
        have hH := hH.symm
        subst hH
        refine lv_iload hx hb dX1_draw_148 (lv_at hl 3 rfl) ?_
        refine lv_iload hx hb dX1_draw_150 (lv_at hl 0 rfl) ?_
        refine lv_iconst (v := (-1)) hx hb dX1_draw_152 (by decide) ?_
        refine lv_iload hx hb dX1_draw_153 (lv_at hl 2 rfl) ?_
        refine lv_iload hx hb dX1_draw_155 (lv_at hl 2 rfl) ?_
        refine lv_iconst (v := 2) hx hb dX1_draw_157 (by decide) ?_
        refine lv_icmp_ne (tgt := 165) hx hb dX1_draw_158 (by decide) (fun c_7 => ?_) (fun c_7 => ?_)
        · skip
          refine lv_iconst (v := 0) hx hb dX1_draw_165 (by decide) ?_
          refine xk_to (y := xk_b ((mk_school σ (mk_near σ n (bk_lock σ a b z))) = 2)) (if_neg c_7).symm ?_
          refine lv_iconst (v := 0) hx hb dX1_draw_166 (by decide) ?_
          refine xe_cv (A1 := (fun x => x = q5 ∨ H5.size ≤ x)) (va_runI (As := [.int (nI (n 3)), .int (bk_lock σ a b z), .int (bk_kind σ n (bk_lock σ a b z) h), .int (-1), .int (mk_school σ (mk_near σ n (bk_lock σ a b z))), .int (xk_b ((mk_school σ (mk_near σ n (bk_lock σ a b z))) = 2)), .int 0]) (rest := [.ref q5, .ref (ad 100)]) ⟨hx, hb, hml, hown, hts⟩ (e_cellInit l D (fun x => x = q5 ∨ H5.size ≤ x) q5 (Or.inl rfl) (nI (n 3)) (bk_lock σ a b z) (bk_kind σ n (bk_lock σ a b z) h) (-1) (mk_school σ (mk_near σ n (bk_lock σ a b z))) (xk_b ((mk_school σ (mk_near σ n (bk_lock σ a b z))) = 2)) 0) (cwI 7 hts (lw_meth q529) rfl rfl rfl (hts _ q60) (hts _ q527) (hts _ q528) rfl (by decide +kernel) ⟨Nat.le_of_ble_eq_true rfl, Nat.le_of_ble_eq_true rfl⟩) (xk_preS hK hO (fun q h => Or.inr h)) rfl rfl hl.1 rfl (lv_room (Nat.le_of_ble_eq_true rfl)) dX1_draw_167 ⟨(Nat.le_of_ble_eq_true rfl), (Nat.le_of_ble_eq_true rfl)⟩) hS (fun w h => h.elim (fun z => by rw [z]; exact hA5) (fun z => hA w (Nat.le_trans hS.1 z))) (fun H9 locs hO hz6 hF6 hS => ?_)
          have hP := bP_keep hP (fun x hx => hF6 (ad x) (bP_lt hP x hx) (fun z => z.elim (fun z => hq5 x hx z.symm) (fun z => absurd (bP_lt hP x hx) (Nat.not_lt.mpr z))))
          refine xe_cv (A1 := A) (va_runV (As := [.ref q5]) (rest := []) ⟨hx, hb, hml, hown, hts⟩ (a_add l D A ad σ nw n hJ hn0 q5 (bk_lock σ a b z) (bk_kind σ n (bk_lock σ a b z) h) (-1) (mk_school σ (mk_near σ n (bk_lock σ a b z))) (xk_b ((mk_school σ (mk_near σ n (bk_lock σ a b z))) = 2)) 0 hq5 hA5 (by omega)) (cwV 1 hts (lw_V q564 q565 q566 q41 q567) rfl rfl rfl cdvX2_add ⟨Nat.le_of_ble_eq_true rfl, Nat.le_of_ble_eq_true rfl⟩) (xe_preV hK (hE.at hS (fun _ h => h)) ⟨hP, hO⟩ (fun q h => hA q (Nat.le_trans hS.1 h)) (xk_recv (q := (RX2, TX2, 7)) hK (b100 hP) rfl)) rfl rfl hl.1 rfl (lv_room (Nat.le_of_ble_eq_true rfl)) dX1_draw_170 ⟨(Nat.le_of_ble_eq_true rfl), (Nat.le_of_ble_eq_true rfl)⟩) hS (fun _ h => h) (fun H locs hq hz hF hS => ?_)
          obtain ⟨ad9, e9, e100, hJ9, hP⟩ := hq
          have hP : bP D ad9 (ad9 100) (mk_addS σ (n 3) (bk_lock σ a b z) (bk_kind σ n (bk_lock σ a b z) h) (-1)) (bk_newc nw (n 3) (mk_school σ (mk_near σ n (bk_lock σ a b z))) (xk_b ((mk_school σ (mk_near σ n (bk_lock σ a b z))) = 2)) 0) (va_up n 3 (n 3 + 1)) H := hP
          have hl : lv_has ls 9 [(8, .int (bk_kind σ n (bk_lock σ a b z) h)), (7, .int (xk_b (¬ (h = 0) ∧ (mk_school σ (mk_near σ n (bk_lock σ a b z)) = 2 ∧ ¬ (mk_near σ n (bk_lock σ a b z) < ((σ 1 1) - 2)))))), (6, .int (mk_school σ (mk_near σ n (bk_lock σ a b z)))), (5, .int (bk_lock σ a b z)), (0, .ref (ad9 0)), (1, .int (nI a)), (2, .int (nI b)), (3, .int z), (4, .int h)] := by rw [e9]; exact hl
          refine lv_aload_n hx hb dX1_draw_173 rfl (lv_at hl 4 rfl) ?_
          refine xk_getO hAt hK (b0 hP) (C := RX1) (T := TX1) (N := 6) rfl 5 (by decide) (v := .ref (ad9 100)) rfl (hts _ q142) (fun _ h => h) in_X1 dX1_draw_174 ?_
          refine xk_getN hAt hK (b100 hP) (C := RX2) (T := TX2) (N := 7) rfl 0 (by decide) (v := .ref (ad9 101)) rfl q110 (fun _ h => h) in_X2 dX1_draw_177 ?_
          refine xk_ciF hAt hK (P := bP D ad9 (ad9 100) (mk_addS σ (n 3) (bk_lock σ a b z) (bk_kind σ n (bk_lock σ a b z) h) (-1)) (bk_newc nw (n 3) (mk_school σ (mk_near σ n (bk_lock σ a b z))) (xk_b ((mk_school σ (mk_near σ n (bk_lock σ a b z))) = 2)) 0) (va_up n 3 (n 3 + 1))) hP hA hS (xk_recvL hK (bcl hP)) (As := []) (rest := []) (al_size l D A (bP D ad9 (ad9 100) (mk_addS σ (n 3) (bk_lock σ a b z) (bk_kind σ n (bk_lock σ a b z) h) (-1)) (bk_newc nw (n 3) (mk_school σ (mk_near σ n (bk_lock σ a b z))) (xk_b ((mk_school σ (mk_near σ n (bk_lock σ a b z))) = 2)) 0) (va_up n 3 (n 3 + 1))) (ad9 101) (ad9 104) (n 3 + 1) (fun j => ad9 (120 + j)) (fun _ h => bcl (n := va_up n 3 (n 3 + 1)) h)) (va_cwF 0 hts (xk_lwF q236 q240 q242 q40 q244) rfl rfl rfl hK.2.2.1 (by decide +kernel) ⟨Nat.le_of_ble_eq_true rfl, Nat.le_of_ble_eq_true rfl⟩) rfl hl.1 rfl (Nat.le_of_ble_eq_true rfl) dX1_draw_180 ⟨Nat.le_of_ble_eq_true rfl, Nat.le_of_ble_eq_true rfl⟩ (fun r H locs hq hS => ?_)
          obtain ⟨rfl, hP⟩ := hq
          refine lv_iconst (v := 1) hx hb dX1_draw_185 (by decide) ?_
          refine lv_isub hx hb dX1_draw_186 ?_
          refine xk_to (y := nI (n 3)) (nI_pred (n 3)) ?_
          exact hR _ _ _ _ _ dX1_draw_187 ⟨rfl, ad9, e9, hJ9, hP⟩ hS
        refine lv_iconst (v := 1) hx hb dX1_draw_161 (by decide) ?_
        refine lv_goto (tgt := 166) hx hb dX1_draw_162 (by decide) ?_
        refine xk_to (y := xk_b ((mk_school σ (mk_near σ n (bk_lock σ a b z))) = 2)) (if_pos c_7).symm ?_
        refine lv_iconst (v := 0) hx hb dX1_draw_166 (by decide) ?_
        refine xe_cv (A1 := (fun x => x = q5 ∨ H5.size ≤ x)) (va_runI (As := [.int (nI (n 3)), .int (bk_lock σ a b z), .int (bk_kind σ n (bk_lock σ a b z) h), .int (-1), .int (mk_school σ (mk_near σ n (bk_lock σ a b z))), .int (xk_b ((mk_school σ (mk_near σ n (bk_lock σ a b z))) = 2)), .int 0]) (rest := [.ref q5, .ref (ad 100)]) ⟨hx, hb, hml, hown, hts⟩ (e_cellInit l D (fun x => x = q5 ∨ H5.size ≤ x) q5 (Or.inl rfl) (nI (n 3)) (bk_lock σ a b z) (bk_kind σ n (bk_lock σ a b z) h) (-1) (mk_school σ (mk_near σ n (bk_lock σ a b z))) (xk_b ((mk_school σ (mk_near σ n (bk_lock σ a b z))) = 2)) 0) (cwI 7 hts (lw_meth q529) rfl rfl rfl (hts _ q60) (hts _ q527) (hts _ q528) rfl (by decide +kernel) ⟨Nat.le_of_ble_eq_true rfl, Nat.le_of_ble_eq_true rfl⟩) (xk_preS hK hO (fun q h => Or.inr h)) rfl rfl hl.1 rfl (lv_room (Nat.le_of_ble_eq_true rfl)) dX1_draw_167 ⟨(Nat.le_of_ble_eq_true rfl), (Nat.le_of_ble_eq_true rfl)⟩) hS (fun w h => h.elim (fun z => by rw [z]; exact hA5) (fun z => hA w (Nat.le_trans hS.1 z))) (fun H9 locs hO hz6 hF6 hS => ?_)
        have hP := bP_keep hP (fun x hx => hF6 (ad x) (bP_lt hP x hx) (fun z => z.elim (fun z => hq5 x hx z.symm) (fun z => absurd (bP_lt hP x hx) (Nat.not_lt.mpr z))))
        refine xe_cv (A1 := A) (va_runV (As := [.ref q5]) (rest := []) ⟨hx, hb, hml, hown, hts⟩ (a_add l D A ad σ nw n hJ hn0 q5 (bk_lock σ a b z) (bk_kind σ n (bk_lock σ a b z) h) (-1) (mk_school σ (mk_near σ n (bk_lock σ a b z))) (xk_b ((mk_school σ (mk_near σ n (bk_lock σ a b z))) = 2)) 0 hq5 hA5 (by omega)) (cwV 1 hts (lw_V q564 q565 q566 q41 q567) rfl rfl rfl cdvX2_add ⟨Nat.le_of_ble_eq_true rfl, Nat.le_of_ble_eq_true rfl⟩) (xe_preV hK (hE.at hS (fun _ h => h)) ⟨hP, hO⟩ (fun q h => hA q (Nat.le_trans hS.1 h)) (xk_recv (q := (RX2, TX2, 7)) hK (b100 hP) rfl)) rfl rfl hl.1 rfl (lv_room (Nat.le_of_ble_eq_true rfl)) dX1_draw_170 ⟨(Nat.le_of_ble_eq_true rfl), (Nat.le_of_ble_eq_true rfl)⟩) hS (fun _ h => h) (fun H locs hq hz hF hS => ?_)
        obtain ⟨ad9, e9, e100, hJ9, hP⟩ := hq
        have hP : bP D ad9 (ad9 100) (mk_addS σ (n 3) (bk_lock σ a b z) (bk_kind σ n (bk_lock σ a b z) h) (-1)) (bk_newc nw (n 3) (mk_school σ (mk_near σ n (bk_lock σ a b z))) (xk_b ((mk_school σ (mk_near σ n (bk_lock σ a b z))) = 2)) 0) (va_up n 3 (n 3 + 1)) H := hP
        have hl : lv_has ls 9 [(8, .int (bk_kind σ n (bk_lock σ a b z) h)), (7, .int (xk_b (¬ (h = 0) ∧ (mk_school σ (mk_near σ n (bk_lock σ a b z)) = 2 ∧ ¬ (mk_near σ n (bk_lock σ a b z) < ((σ 1 1) - 2)))))), (6, .int (mk_school σ (mk_near σ n (bk_lock σ a b z)))), (5, .int (bk_lock σ a b z)), (0, .ref (ad9 0)), (1, .int (nI a)), (2, .int (nI b)), (3, .int z), (4, .int h)] := by rw [e9]; exact hl
        refine lv_aload_n hx hb dX1_draw_173 rfl (lv_at hl 4 rfl) ?_
        refine xk_getO hAt hK (b0 hP) (C := RX1) (T := TX1) (N := 6) rfl 5 (by decide) (v := .ref (ad9 100)) rfl (hts _ q142) (fun _ h => h) in_X1 dX1_draw_174 ?_
        refine xk_getN hAt hK (b100 hP) (C := RX2) (T := TX2) (N := 7) rfl 0 (by decide) (v := .ref (ad9 101)) rfl q110 (fun _ h => h) in_X2 dX1_draw_177 ?_
        refine xk_ciF hAt hK (P := bP D ad9 (ad9 100) (mk_addS σ (n 3) (bk_lock σ a b z) (bk_kind σ n (bk_lock σ a b z) h) (-1)) (bk_newc nw (n 3) (mk_school σ (mk_near σ n (bk_lock σ a b z))) (xk_b ((mk_school σ (mk_near σ n (bk_lock σ a b z))) = 2)) 0) (va_up n 3 (n 3 + 1))) hP hA hS (xk_recvL hK (bcl hP)) (As := []) (rest := []) (al_size l D A (bP D ad9 (ad9 100) (mk_addS σ (n 3) (bk_lock σ a b z) (bk_kind σ n (bk_lock σ a b z) h) (-1)) (bk_newc nw (n 3) (mk_school σ (mk_near σ n (bk_lock σ a b z))) (xk_b ((mk_school σ (mk_near σ n (bk_lock σ a b z))) = 2)) 0) (va_up n 3 (n 3 + 1))) (ad9 101) (ad9 104) (n 3 + 1) (fun j => ad9 (120 + j)) (fun _ h => bcl (n := va_up n 3 (n 3 + 1)) h)) (va_cwF 0 hts (xk_lwF q236 q240 q242 q40 q244) rfl rfl rfl hK.2.2.1 (by decide +kernel) ⟨Nat.le_of_ble_eq_true rfl, Nat.le_of_ble_eq_true rfl⟩) rfl hl.1 rfl (Nat.le_of_ble_eq_true rfl) dX1_draw_180 ⟨Nat.le_of_ble_eq_true rfl, Nat.le_of_ble_eq_true rfl⟩ (fun r H locs hq hS => ?_)
        obtain ⟨rfl, hP⟩ := hq
        refine lv_iconst (v := 1) hx hb dX1_draw_185 (by decide) ?_
        refine lv_isub hx hb dX1_draw_186 ?_
        refine xk_to (y := nI (n 3)) (nI_pred (n 3)) ?_
        exact hR _ _ _ _ _ dX1_draw_187 ⟨rfl, ad9, e9, hJ9, hP⟩ hS
      refine xk_ifeq (tgt := 116) hx hb dX1_draw_109 (by decide) (fun c_5 => ?_) (fun c_5 => ?_)
      · skip
        refine lv_iload hx hb dX1_draw_116 (lv_at hl 7 rfl) ?_
        refine lv_if_eq (tgt := 125) hx hb dX1_draw_118 (by decide) (fun c_8 => ?_) (fun c_8 => ?_)
        · skip
          refine lv_iconst (v := 0) hx hb dX1_draw_125 (by decide) ?_
          exact J126_6 _ _ _ 0 (((if_pos c_8).symm).trans (if_neg c_5).symm) hP hS (lv_sub hl [0, 1, 2, 3, 4, 5, 6, 7] rfl)
        refine lv_iconst (v := 1) hx hb dX1_draw_121 (by decide) ?_
        refine lv_goto (tgt := 126) hx hb dX1_draw_122 (by decide) ?_
        exact J126_6 _ _ _ 1 (((if_neg c_8).symm).trans (if_neg c_5).symm) hP hS (lv_sub hl [0, 1, 2, 3, 4, 5, 6, 7] rfl)
      refine lv_iconst (v := 2) hx hb dX1_draw_112 (by decide) ?_
      refine lv_goto (tgt := 126) hx hb dX1_draw_113 (by decide) ?_
      exact J126_6 _ _ _ 2 ((if_pos c_5).symm) hP hS (lv_sub hl [0, 1, 2, 3, 4, 5, 6, 7] rfl)
    refine lv_if_eq (tgt := 104) hx hb dX1_draw_74 (by decide) (fun c_3 => ?_) (fun c_3 => ?_)
    · skip
      refine lv_iconst (v := 0) hx hb dX1_draw_104 (by decide) ?_
      exact J105_4 _ _ _ 0 ((if_neg (fun h => h.1 c_3)).symm) hP hS (lv_sub hl [0, 1, 2, 3, 4, 5, 6] rfl)
    refine lv_iload hx hb dX1_draw_77 (lv_at hl 0 rfl) ?_
    refine lv_iconst (v := 2) hx hb dX1_draw_79 (by decide) ?_
    refine lv_icmp_ne (tgt := 104) hx hb dX1_draw_80 (by decide) (fun c_9 => ?_) (fun c_9 => ?_)
    · skip
      refine lv_iconst (v := 0) hx hb dX1_draw_104 (by decide) ?_
      exact J105_4 _ _ _ 0 ((if_neg (fun h => (fun h => c_9 h.1) h.2)).symm) hP hS (lv_sub hl [0, 1, 2, 3, 4, 5, 6] rfl)
    refine lv_aload_n hx hb dX1_draw_83 rfl (lv_at hl 2 rfl) ?_
    refine lv_iload hx hb dX1_draw_84 (lv_at hl 1 rfl) ?_
    refine xk_ciV hAt hK (P := bP D ad (ad 100) σ nw n) hP hA hS (xk_recv (q := (RX1, TX1, 6)) hK (b0 hP) rfl) (As := [.int (bk_lock σ a b z)]) (rest := []) (b_nearnessOf l D A ad (ad 100) σ nw n (by assumption) (bk_lock σ a b z)) (cwV 1 hts (lw_V q288 q290 qs5 q37 q291) rfl rfl rfl cdX1_nearnessOf ⟨Nat.le_of_ble_eq_true rfl, Nat.le_of_ble_eq_true rfl⟩) rfl hl.1 rfl (Nat.le_of_ble_eq_true rfl) dX1_draw_86 ⟨Nat.le_of_ble_eq_true rfl, Nat.le_of_ble_eq_true rfl⟩ (fun r H locs hq hS => ?_)
    obtain ⟨rfl, hP⟩ := hq
    refine lv_aload_n hx hb dX1_draw_89 rfl (lv_at hl 2 rfl) ?_
    refine xk_getO hAt hK (b0 hP) (C := RX1) (T := TX1) (N := 6) rfl 1 (by decide) (v := .ref (ad 6)) rfl (hts _ q136) (fun _ h => h) in_X1 dX1_draw_90 ?_
    refine lv_iconst (v := 1) hx hb dX1_draw_93 (by decide) ?_
    refine xk_ialdO hAt hK (bmk hP) 1 (by omega) (by decide) dX1_draw_94 ?_
    refine lv_iconst (v := 2) hx hb dX1_draw_95 (by decide) ?_
    refine lv_isub hx hb dX1_draw_96 ?_
    refine lv_icmp_lt (tgt := 104) hx hb dX1_draw_97 (by decide) (fun c_10 => ?_) (fun c_10 => ?_)
    · skip
      refine lv_iconst (v := 0) hx hb dX1_draw_104 (by decide) ?_
      exact J105_4 _ _ _ 0 ((if_neg (fun h => (fun h => (fun h => h c_10) h.2) h.2)).symm) hP hS (lv_sub hl [0, 1, 2, 3, 4, 5, 6] rfl)
    refine lv_iconst (v := 1) hx hb dX1_draw_100 (by decide) ?_
    refine lv_goto (tgt := 105) hx hb dX1_draw_101 (by decide) ?_
    exact J105_4 _ _ _ 1 ((if_pos ⟨c_3, ⟨c_9, c_10⟩⟩).symm) hP hS (lv_sub hl [0, 1, 2, 3, 4, 5, 6] rfl)
  refine mk_ge (tgt := 51) (a := n 3) (b := 40) hx hb (by omega) (by omega) dX1_draw_44 (by decide) (fun c_1 => ?_) (fun c_1 => ?_)
  · skip
    refine lv_iconst (v := 0) hx hb dX1_draw_51 (by decide) ?_
    exact J52_2 _ _ _ 0 ((if_neg (fun h => h c_1)).symm) hP hS (lv_sub hl [0, 1, 2, 3, 4] rfl)
  refine lv_iconst (v := 1) hx hb dX1_draw_47 (by decide) ?_
  refine lv_goto (tgt := 52) hx hb dX1_draw_48 (by decide) ?_
  exact J52_2 _ _ _ 1 ((if_pos (Nat.not_le.mpr c_1)).symm) hP hS (lv_sub hl [0, 1, 2, 3, 4] rfl)
