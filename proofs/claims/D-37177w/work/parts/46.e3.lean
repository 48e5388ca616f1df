/-! THE LIST: add, and the box, walked (printed by gen/model.py) -/
set_option maxRecDepth 100000
theorem cdvJ2_grow_2 : yJ2_grow_2.cls = RJ2 ∧ yJ2_grow_2.cls ≠ "java/lang/invoke/MethodHandle" ∧ yJ2_grow_2.cls ≠ "java/lang/invoke/VarHandle" ∧ (parseMethodDescriptor yJ2_grow_2.desc).map (fun d => d.parameters.length) = some 1 := by decide +kernel
theorem cdvJ2_grow : yJ2_grow.cls = RJ2 ∧ yJ2_grow.cls ≠ "java/lang/invoke/MethodHandle" ∧ yJ2_grow.cls ≠ "java/lang/invoke/VarHandle" ∧ (parseMethodDescriptor yJ2_grow.desc).map (fun d => d.parameters.length) = some 0 := by decide +kernel
theorem cdvJ2_add_2 : yJ2_add_2.cls = RJ2 ∧ yJ2_add_2.cls ≠ "java/lang/invoke/MethodHandle" ∧ yJ2_add_2.cls ≠ "java/lang/invoke/VarHandle" ∧ (parseMethodDescriptor yJ2_add_2.desc).map (fun d => d.parameters.length) = some 3 := by decide +kernel
set_option maxHeartbeats 4000000 in
theorem e_grow (l : Launch) (D : xk_G) (A : Nat → Prop) (ci : Nat) {C : String} {T : u_T} {Nf : Nat} (hc : xk_CL[ci]? = some (C, T, Nf)) (hcast : Cond.castable C "java/lang/Object" ∈ lw_tbl) (S0 q aa n : Nat) (mc : Int32) (f : Nat → Option Nat) (hq0 : A q) (hn40 : n ≤ 40) (haa : n ≠ 0 → A aa ∧ aa ≠ q) (hqS : q < S0) : Met l yJ2_grow (ws_ yJ2_grow cJ2_grow 1 (some (.array (.object "java/lang/Object")))) (xk_Rm 4 170 1 90) (xe_Pre D A (fun H => S0 ≤ H.size ∧ bO D q 5 [.int mc, .ref aa, .int (nI n)] H ∧ ((n = 0 ∧ aa = D.2 100) ∨ (10 ≤ n ∧ bQ D aa 1 n f H ∧ ∀ i, i < n → ∃ y, f i = some y ∧ ¬ A y ∧ xe_El D ci y H))) [.ref q]) (xk_Pr A (fun r H => S0 ≤ r ∧ bO D q 5 [.int mc, .ref r, .int (nI n)] H ∧ ∃ (N : Nat) (f' : Nat → Option Nat), n + 1 ≤ N ∧ 10 ≤ N ∧ N ≤ 60 ∧ bQ D r 1 N f' H ∧ ∀ i, i < n → f' i = f i)) 1 90 A := by
  refine xe_startR (by decide +kernel) (Nat.le_of_ble_eq_true rfl) (Or.inr ⟨_, rfl⟩) ?_
  intro p e s m args below meth c Q hAt hin hK hE hA hP hR ls hl
  obtain ⟨hx, hb, hml, hown, hts⟩ := id hAt
  have hl : lv_has ls 1 [(0, .ref q)] := hl
  have hS : va_S A s.heap s.heap [] := va_S.rf
  have hO := hP.2.1
  refine lv_aload_n hx hb dJ2_grow_0 rfl (lv_at hl 0 rfl) ?_
  refine lv_aload_n hx hb dJ2_grow_1 rfl (lv_at hl 0 rfl) ?_
  refine xk_getO hAt hK hO (C := RJ2) (T := TJ2) (N := 3) rfl 2 (by decide) (v := .int (nI n)) rfl (hts _ q89) (fun _ h => h) in_J2 dJ2_grow_2 ?_
  refine lv_iconst (v := 1) hx hb dJ2_grow_5 (by decide) ?_
  refine lv_iadd hx hb dJ2_grow_6 ?_
  refine xk_to (y := nI (n + 1)) (nI_add n 1) ?_
  refine xe_cr (A1 := A) (va_runV (As := [.int (nI (n + 1))]) (rest := []) ⟨hx, hb, hml, hown, hts⟩ (e_grow2 l D A ci hc hcast S0 q aa n mc f hq0 hn40 haa hqS) (cwV 1 hts (lw_V q395 q397 qs9 q40 q398) rfl rfl rfl cdvJ2_grow_2 ⟨Nat.le_of_ble_eq_true rfl, Nat.le_of_ble_eq_true rfl⟩) (xe_preV hK (hE.at hS (fun _ h => h)) hP (fun q h => hA q (Nat.le_trans hS.1 h)) (xk_recv (q := (RJ2, TJ2, 3)) hK hO rfl)) rfl rfl hl.1 rfl (lv_room (Nat.le_of_ble_eq_true rfl)) dJ2_grow_7 ⟨(Nat.le_of_ble_eq_true rfl), (Nat.le_of_ble_eq_true rfl)⟩) hS (fun _ h => h) (fun r7 H locs hq hz hF hS => ?_)
  exact hR _ _ _ _ _ dJ2_grow_10 hq hS
set_option maxHeartbeats 4000000 in
theorem e_add2 (l : Launch) (D : xk_G) (A : Nat → Prop) (ci : Nat) {C : String} {T : u_T} {Nf : Nat} (hc : xk_CL[ci]? = some (C, T, Nf)) (hcast : Cond.castable C "java/lang/Object" ∈ lw_tbl) (S0 q v aa n : Nat) (mc : Int32) (g : Nat → Nat) (hq0 : A q) (hvA : ¬ A v) (hn40 : n < 40) (haa : n ≠ 0 → A aa ∧ aa ≠ q) (hqS : q < S0) : Met l yJ2_add_2 (ws_ yJ2_add_2 cJ2_add_2 4 (none)) (xk_Rm 5 200 1 90) (xe_Pre D A (fun H => H.size = S0 ∧ bO D q 5 [.int mc, .ref aa, .int (nI n)] H ∧ xe_El D ci v H ∧ ((n = 0 ∧ aa = D.2 100) ∨ (0 < n ∧ ∃ (cap : Nat) (f : Nat → Option Nat), n ≤ cap ∧ 10 ≤ cap ∧ cap ≤ 60 ∧ bQ D aa 1 cap f H ∧ (∀ i, i < n → f i = some (g i)) ∧ ∀ i, i < n → ¬ A (g i) ∧ xe_El D ci (g i) H))) [.ref q, .ref v, .ref aa, .int (nI n)]) (xk_Pv A (fun H => ∃ (d' N : Nat) (f' : Nat → Option Nat), (S0 ≤ d' ∨ (0 < n ∧ d' = aa)) ∧ bO D q 5 [.int mc, .ref d', .int (nI (n + 1))] H ∧ n + 1 ≤ N ∧ 10 ≤ N ∧ N ≤ 60 ∧ bQ D d' 1 N f' H ∧ ∀ i, i < n + 1 → f' i = some (va_up g n v i))) 1 90 A := by
  refine xe_startV (by decide +kernel) (Nat.le_of_ble_eq_true rfl) ?_
  intro p e s m args below meth c Q hAt hin hK hE hA hP hR ls hl
  obtain ⟨hx, hb, hml, hown, hts⟩ := id hAt
  have hl : lv_has ls 4 [(0, .ref q), (1, .ref v), (2, .ref aa), (3, .int (nI n))] := hl
  have hS : va_S A s.heap s.heap [] := va_S.rf
  have hO := hP.2.1
  have hv := hP.2.2.1
  have h3 : (n = 0 ∧ aa = D.2 100) ∨ (∃ f : Nat → Option Nat, 0 < n ∧ 10 ≤ n ∧ bQ D aa 1 n f s.heap ∧ (∀ i, i < n → f i = some (g i)) ∧ ∀ i, i < n → ¬ A (g i) ∧ xe_El D ci (g i) s.heap) ∨ (∃ (cap : Nat) (f : Nat → Option Nat), 0 < n ∧ n < cap ∧ 10 ≤ cap ∧ cap ≤ 60 ∧ bQ D aa 1 cap f s.heap ∧ ∀ i, i < n → f i = some (g i)) := by
    rcases hP.2.2.2 with h | ⟨h0, cap, f, c1, c2, c3, hQ, hf, hEl⟩
    · exact Or.inl h
    · rcases Nat.lt_or_ge n cap with hlt | hge
      · exact Or.inr (Or.inr ⟨cap, f, h0, hlt, c2, c3, hQ, hf⟩)
      · have e : cap = n := by omega
        subst e
        exact Or.inr (Or.inl ⟨f, h0, c2, hQ, hf, hEl⟩)
  rcases h3 with ⟨rfl, rfl⟩ | ⟨f, h0, h10, hQ, hf, hEl⟩ | ⟨cap, f, h0, hlt, c2, c3, hQ, hf⟩
  · skip
    refine lv_iload_n hx hb dJ2_add_2_0 rfl (lv_at hl 3 rfl) ?_
    refine lv_aload_n hx hb dJ2_add_2_1 rfl (lv_at hl 2 rfl) ?_
    refine va_tlen hx hb hE.2.2.2.2.1.2 hS (v := nI 0) rfl dJ2_add_2_2 ?_
    refine mk_ne (tgt := 11) (a := 0) (b := 0) hx hb (by omega) (by omega) dJ2_add_2_3 (by decide) (fun z => absurd rfl z) (fun _ => ?_)
    refine lv_aload_n hx hb dJ2_add_2_6 rfl (lv_at hl 0 rfl) ?_
    refine xe_cr (A1 := A) (va_runV (As := []) (rest := []) ⟨hx, hb, hml, hown, hts⟩ (e_grow l D A ci hc hcast S0 q (D.2 100) 0 mc (fun _ => none) hq0 (by omega) (fun z => ⟨(haa z).1, (haa z).2⟩) hqS) (cwV 0 hts (lw_V q391 q393 qs8 q40 q394) rfl rfl rfl cdvJ2_grow ⟨Nat.le_of_ble_eq_true rfl, Nat.le_of_ble_eq_true rfl⟩) (xe_preV hK (hE.at hS (fun _ h => h)) ⟨Nat.le_of_eq hP.1.symm, hO, Or.inl ⟨rfl, rfl⟩⟩ (fun q h => hA q (Nat.le_trans hS.1 h)) (xk_recv (q := (RJ2, TJ2, 3)) hK hO rfl)) rfl rfl hl.1 rfl (lv_room (Nat.le_of_ble_eq_true rfl)) dJ2_add_2_7 ⟨(Nat.le_of_ble_eq_true rfl), (Nat.le_of_ble_eq_true rfl)⟩) hS (fun _ h => h) (fun r7 H locs hq hz hF hS => ?_)
    obtain ⟨hr0, hO, N, f7, n1, n2, n3, hQ, hf7⟩ := hq
    have hA7 : A r7 := hA r7 (by rw [hP.1]; exact hr0)
    have hne7 : r7 ≠ q := Nat.ne_of_gt (Nat.lt_of_lt_of_le hqS hr0)
    refine lv_astore_n (lv' := [(2, .ref r7), (0, .ref q), (1, .ref v), (3, .int (nI 0))]) hx hb dJ2_add_2_10 rfl hl (by decide) rfl (fun ls hl => ?_)
    refine lv_aload_n hx hb dJ2_add_2_11 rfl (lv_at hl 0 rfl) ?_
    refine lv_iload_n hx hb dJ2_add_2_12 rfl (lv_at hl 3 rfl) ?_
    refine lv_aload_n hx hb dJ2_add_2_13 rfl (lv_at hl 2 rfl) ?_
    refine xe_astQ hAt hK hS hQ hA7 (xe_El.any hK hc hcast (hv.kept (hS.2.1 v hv.lt hvA))) (0) (by omega) (by omega) dJ2_add_2_14 (fun H locs hQ oq hz hS => ?_)
    have hO := hO.kept (oq q (Ne.symm hne7))
    refine lv_aload_n hx hb dJ2_add_2_15 rfl (lv_at hl 1 rfl) ?_
    refine lv_iload_n hx hb dJ2_add_2_16 rfl (lv_at hl 3 rfl) ?_
    refine lv_iconst (v := 1) hx hb dJ2_add_2_17 (by decide) ?_
    refine lv_iadd hx hb dJ2_add_2_18 ?_
    refine xk_to (y := nI (0 + 1)) (nI_add 0 1) ?_
    refine xk_putO hAt hK hS hO hq0 (C := RJ2) (T := TJ2) (N := 3) rfl 2 (by decide) (v := .int (nI (0 + 1))) (hts _ q89) (fun _ h => h) rfl (ty := .int) (by decide +kernel) rfl rfl tyJ2 tyJ2_ok nmJ2 (Nat.le_of_ble_eq_true rfl) in_J2 dJ2_add_2_19 (fun H locs hO oq hz hS => ?_)
    have hO : bO D q 5 [.int mc, .ref r7, .int (nI (0 + 1))] H := hO
    have hQ := hQ.kept (oq r7 hne7)
    exact hR _ _ _ _ dJ2_add_2_22 ⟨r7, N, _, Or.inl hr0, hO, by omega, by omega, by omega, hQ, fun i hi => e_up g (0) v (fun i hi => absurd hi (Nat.not_lt_zero i)) i hi⟩ hS
  · skip
    refine lv_iload_n hx hb dJ2_add_2_0 rfl (lv_at hl 3 rfl) ?_
    refine lv_aload_n hx hb dJ2_add_2_1 rfl (lv_at hl 2 rfl) ?_
    refine xe_alen hAt hK hQ dJ2_add_2_2 ?_
    refine mk_ne (tgt := 11) (a := n) (b := n) hx hb (by omega) (by omega) dJ2_add_2_3 (by decide) (fun z => absurd rfl z) (fun _ => ?_)
    refine lv_aload_n hx hb dJ2_add_2_6 rfl (lv_at hl 0 rfl) ?_
    refine xe_cr (A1 := A) (va_runV (As := []) (rest := []) ⟨hx, hb, hml, hown, hts⟩ (e_grow l D A ci hc hcast S0 q aa n mc f hq0 (by omega) (fun z => ⟨(haa z).1, (haa z).2⟩) hqS) (cwV 0 hts (lw_V q391 q393 qs8 q40 q394) rfl rfl rfl cdvJ2_grow ⟨Nat.le_of_ble_eq_true rfl, Nat.le_of_ble_eq_true rfl⟩) (xe_preV hK (hE.at hS (fun _ h => h)) ⟨Nat.le_of_eq hP.1.symm, hO, Or.inr ⟨h10, hQ, fun i hi => ⟨g i, hf i hi, (hEl i hi).1, (hEl i hi).2⟩⟩⟩ (fun q h => hA q (Nat.le_trans hS.1 h)) (xk_recv (q := (RJ2, TJ2, 3)) hK hO rfl)) rfl rfl hl.1 rfl (lv_room (Nat.le_of_ble_eq_true rfl)) dJ2_add_2_7 ⟨(Nat.le_of_ble_eq_true rfl), (Nat.le_of_ble_eq_true rfl)⟩) hS (fun _ h => h) (fun r7 H locs hq hz hF hS => ?_)
    obtain ⟨hr0, hO, N, f7, n1, n2, n3, hQ, hf7⟩ := hq
    have hA7 : A r7 := hA r7 (by rw [hP.1]; exact hr0)
    have hne7 : r7 ≠ q := Nat.ne_of_gt (Nat.lt_of_lt_of_le hqS hr0)
    refine lv_astore_n (lv' := [(2, .ref r7), (0, .ref q), (1, .ref v), (3, .int (nI n))]) hx hb dJ2_add_2_10 rfl hl (by decide) rfl (fun ls hl => ?_)
    refine lv_aload_n hx hb dJ2_add_2_11 rfl (lv_at hl 0 rfl) ?_
    refine lv_iload_n hx hb dJ2_add_2_12 rfl (lv_at hl 3 rfl) ?_
    refine lv_aload_n hx hb dJ2_add_2_13 rfl (lv_at hl 2 rfl) ?_
    refine xe_astQ hAt hK hS hQ hA7 (xe_El.any hK hc hcast (hv.kept (hS.2.1 v hv.lt hvA))) (n) (by omega) (by omega) dJ2_add_2_14 (fun H locs hQ oq hz hS => ?_)
    have hO := hO.kept (oq q (Ne.symm hne7))
    refine lv_aload_n hx hb dJ2_add_2_15 rfl (lv_at hl 1 rfl) ?_
    refine lv_iload_n hx hb dJ2_add_2_16 rfl (lv_at hl 3 rfl) ?_
    refine lv_iconst (v := 1) hx hb dJ2_add_2_17 (by decide) ?_
    refine lv_iadd hx hb dJ2_add_2_18 ?_
    refine xk_to (y := nI (n + 1)) (nI_add n 1) ?_
    refine xk_putO hAt hK hS hO hq0 (C := RJ2) (T := TJ2) (N := 3) rfl 2 (by decide) (v := .int (nI (n + 1))) (hts _ q89) (fun _ h => h) rfl (ty := .int) (by decide +kernel) rfl rfl tyJ2 tyJ2_ok nmJ2 (Nat.le_of_ble_eq_true rfl) in_J2 dJ2_add_2_19 (fun H locs hO oq hz hS => ?_)
    have hO : bO D q 5 [.int mc, .ref r7, .int (nI (n + 1))] H := hO
    have hQ := hQ.kept (oq r7 hne7)
    exact hR _ _ _ _ dJ2_add_2_22 ⟨r7, N, _, Or.inl hr0, hO, by omega, by omega, by omega, hQ, fun i hi => e_up g (n) v (fun i hi => (hf7 i hi).trans (hf i hi)) i hi⟩ hS
  · skip
    obtain ⟨hA7, hne7⟩ := haa (by omega)
    refine lv_iload_n hx hb dJ2_add_2_0 rfl (lv_at hl 3 rfl) ?_
    refine lv_aload_n hx hb dJ2_add_2_1 rfl (lv_at hl 2 rfl) ?_
    refine xe_alen hAt hK hQ dJ2_add_2_2 ?_
    refine mk_ne (tgt := 11) (a := n) (b := cap) hx hb (by omega) (by omega) dJ2_add_2_3 (by decide) (fun _ => ?_) (fun z => absurd z (by omega))
    refine lv_aload_n hx hb dJ2_add_2_11 rfl (lv_at hl 2 rfl) ?_
    refine lv_iload_n hx hb dJ2_add_2_12 rfl (lv_at hl 3 rfl) ?_
    refine lv_aload_n hx hb dJ2_add_2_13 rfl (lv_at hl 1 rfl) ?_
    refine xe_astQ hAt hK hS hQ hA7 (xe_El.any hK hc hcast (hv.kept (hS.2.1 v hv.lt hvA))) (n) (by omega) (by omega) dJ2_add_2_14 (fun H locs hQ oq hz hS => ?_)
    have hO := hO.kept (oq q (Ne.symm hne7))
    refine lv_aload_n hx hb dJ2_add_2_15 rfl (lv_at hl 0 rfl) ?_
    refine lv_iload_n hx hb dJ2_add_2_16 rfl (lv_at hl 3 rfl) ?_
    refine lv_iconst (v := 1) hx hb dJ2_add_2_17 (by decide) ?_
    refine lv_iadd hx hb dJ2_add_2_18 ?_
    refine xk_to (y := nI (n + 1)) (nI_add n 1) ?_
    refine xk_putO hAt hK hS hO hq0 (C := RJ2) (T := TJ2) (N := 3) rfl 2 (by decide) (v := .int (nI (n + 1))) (hts _ q89) (fun _ h => h) rfl (ty := .int) (by decide +kernel) rfl rfl tyJ2 tyJ2_ok nmJ2 (Nat.le_of_ble_eq_true rfl) in_J2 dJ2_add_2_19 (fun H locs hO oq hz hS => ?_)
    have hO : bO D q 5 [.int mc, .ref aa, .int (nI (n + 1))] H := hO
    have hQ := hQ.kept (oq aa hne7)
    refine W.widen (k := 1) (n := 90) (Nat.le_of_ble_eq_true rfl) (Nat.le_of_ble_eq_true rfl) ?_
    exact hR _ _ _ _ dJ2_add_2_22 ⟨aa, cap, _, Or.inr ⟨h0, rfl⟩, hO, by omega, by omega, by omega, hQ, fun i hi => e_up g (n) v hf i hi⟩ hS
set_option maxHeartbeats 4000000 in
theorem e_add (l : Launch) (D : xk_G) (A : Nat → Prop) (ci : Nat) {C : String} {T : u_T} {Nf : Nat} (hc : xk_CL[ci]? = some (C, T, Nf)) (hcast : Cond.castable C "java/lang/Object" ∈ lw_tbl) (S0 q v dd n : Nat) (g : Nat → Nat) (hq0 : A q) (hvA : ¬ A v) (hn40 : n < 40) (hdd : 0 < n → A dd ∧ dd ≠ q) (hqS : q < S0) : Met l yJ2_add (ws_ yJ2_add cJ2_add 2 (some .boolean)) (xk_Rm 6 240 1 90) (xe_Pre D A (fun H => H.size = S0 ∧ bL D q dd n g H ∧ xe_El D ci v H ∧ ∀ i, i < n → ¬ A (g i) ∧ xe_El D ci (g i) H) [.ref q, .ref v]) (xk_Pi A (fun r H => r = 1 ∧ ∃ d' : Nat, (S0 ≤ d' ∨ (0 < n ∧ d' = dd)) ∧ bL D q d' (n + 1) (va_up g n v) H)) 1 90 A := by
  refine xe_startZ (by decide +kernel) (Nat.le_of_ble_eq_true rfl) (fun r H h => by rw [h.1]; decide +kernel) ?_
  intro p e s m args below meth c Q hAt hin hK hE hA hP hR ls hl
  obtain ⟨hx, hb, hml, hown, hts⟩ := id hAt
  have hl : lv_has ls 2 [(0, .ref q), (1, .ref v)] := hl
  have hS : va_S A s.heap s.heap [] := va_S.rf
  obtain ⟨mc, aa, hO, hL⟩ := hP.2.1
  have haa : n ≠ 0 → A aa ∧ aa ≠ q := fun z => by
    rcases hL with h | ⟨h0, h1, -⟩
    · exact absurd h.1 z
    · rw [h1]; exact hdd h0
  refine lv_aload_n hx hb dJ2_add_0 rfl (lv_at hl 0 rfl) ?_
  refine lv_dup hx hb dJ2_add_1 rfl ?_
  refine xk_getO hAt hK hO (C := RJ2) (T := TJ2) (N := 3) rfl 0 (by decide) (v := .int mc) rfl (hts _ q91) (fun x9 h9 => u_same (hts _ q92) x9 h9) in_J2 dJ2_add_2 ?_
  refine lv_iconst (v := 1) hx hb dJ2_add_5 (by decide) ?_
  refine lv_iadd hx hb dJ2_add_6 ?_
  refine xk_putO hAt hK hS hO hq0 (C := RJ2) (T := TJ2) (N := 3) rfl 0 (by decide) (v := .int (mc + 1)) (hts _ q91) (fun x9 h9 => u_same (hts _ q92) x9 h9) rfl (ty := .int) (by decide +kernel) rfl rfl tyJ2 tyJ2_ok nmJ2 (Nat.le_of_ble_eq_true rfl) in_J2 dJ2_add_7 (fun H locs hO oq hz hS => ?_)
  have hO : bO D q 5 [.int (mc + 1), .ref aa, .int (nI n)] H := hO
  have hPn : H.size = S0 ∧ bO D q 5 [.int (mc + 1), .ref aa, .int (nI n)] H ∧ xe_El D ci v H ∧ ((n = 0 ∧ aa = D.2 100) ∨ (0 < n ∧ ∃ (cap : Nat) (f : Nat → Option Nat), n ≤ cap ∧ 10 ≤ cap ∧ cap ≤ 60 ∧ bQ D aa 1 cap f H ∧ (∀ i, i < n → f i = some (g i)) ∧ ∀ i, i < n → ¬ A (g i) ∧ xe_El D ci (g i) H)) := by
    refine ⟨hz.trans hP.1, hO, hP.2.2.1.kept (oq v (fun z => hvA (by rw [z]; exact hq0))), ?_⟩
    rcases hL with h | ⟨h0, h1, cap, f, h2, h3, h4, h5, h6⟩
    · exact Or.inl h
    · refine Or.inr ⟨h0, cap, f, h2, h3, h4, ?_, h6, fun i hi => ⟨(hP.2.2.2 i hi).1, (hP.2.2.2 i hi).2.kept (oq _ (fun z => (hP.2.2.2 i hi).1 (by rw [z]; exact hq0)))⟩⟩
      rw [h1]
      exact h5.kept (oq dd (hdd h0).2)
  refine lv_aload_n hx hb dJ2_add_10 rfl (lv_at hl 0 rfl) ?_
  refine lv_aload_n hx hb dJ2_add_11 rfl (lv_at hl 1 rfl) ?_
  refine lv_aload_n hx hb dJ2_add_12 rfl (lv_at hl 0 rfl) ?_
  refine xk_getO hAt hK hO (C := RJ2) (T := TJ2) (N := 3) rfl 1 (by decide) (v := .ref aa) rfl (hts _ q88) (fun _ h => h) in_J2 dJ2_add_13 ?_
  refine lv_aload_n hx hb dJ2_add_16 rfl (lv_at hl 0 rfl) ?_
  refine xk_getO hAt hK hO (C := RJ2) (T := TJ2) (N := 3) rfl 2 (by decide) (v := .int (nI n)) rfl (hts _ q89) (fun _ h => h) in_J2 dJ2_add_17 ?_
  refine xe_cv (A1 := A) (va_runV (As := [.ref v, .ref aa, .int (nI n)]) (rest := []) ⟨hx, hb, hml, hown, hts⟩ (e_add2 l D A ci hc hcast S0 q v aa n (mc + 1) g hq0 hvA hn40 haa hqS) (cwV 3 hts (lw_V q387 q389 qs7 q40 q390) rfl rfl rfl cdvJ2_add_2 ⟨Nat.le_of_ble_eq_true rfl, Nat.le_of_ble_eq_true rfl⟩) (xe_preV hK (hE.at hS (fun _ h => h)) hPn (fun q h => hA q (Nat.le_trans hS.1 h)) (xk_recv (q := (RJ2, TJ2, 3)) hK hO rfl)) rfl rfl hl.1 rfl (lv_room (Nat.le_of_ble_eq_true rfl)) dJ2_add_20 ⟨(Nat.le_of_ble_eq_true rfl), (Nat.le_of_ble_eq_true rfl)⟩) hS (fun _ h => h) (fun H locs hq hz hF hS => ?_)
  obtain ⟨d', N, f', hd', hO, n1, n2, n3, hQ, hf'⟩ := hq
  refine lv_iconst (v := 1) hx hb dJ2_add_23 (by decide) ?_
  exact hR _ _ _ _ _ dJ2_add_24 ⟨rfl, d', hd'.imp id (fun z => ⟨z.1, e_aa hL z⟩), _, d', hO, Or.inr ⟨by omega, rfl, N, f', n1, n2, n3, hQ, hf'⟩⟩ hS
set_option maxHeartbeats 4000000 in
theorem e_listInit (l : Launch) (D : xk_G) (A : Nat → Prop) (q : Nat) (hq0 : A q) (dd : Nat) (g : Nat → Nat) : Met l yJ2_init (ws_ yJ2_init cJ2_init 1 (none)) (xk_R 3 80) (xe_Pre D A (fun H => bO D q 5 [.int 0, .null, .int 0] H) [.ref q]) (xk_Pv A (fun H => bL D q dd 0 g H)) 0 0 A := by
  refine xe_startV (by decide +kernel) (Nat.le_of_ble_eq_true rfl) ?_
  intro p e s m args below meth c Q hAt hin hK hE hA hP hR ls hl
  obtain ⟨hx, hb, hml, hown, hts⟩ := id hAt
  have hl : lv_has ls 1 [(0, .ref q)] := hl
  have hS : va_S A s.heap s.heap [] := va_S.rf
  refine lv_aload_n hx hb dJ2_init_0 rfl (lv_at hl 0 rfl) ?_
  refine xe_cv (A1 := A) (va_runI (As := []) (rest := []) ⟨hx, hb, hml, hown, hts⟩ (e_absInit l D A q hq0 0) (cwI 0 hts (lw_meth q81) rfl rfl rfl (hts _ q39) (hts _ q79) (hts _ q80) rfl (by decide +kernel) ⟨Nat.le_of_ble_eq_true rfl, Nat.le_of_ble_eq_true rfl⟩) (xk_preS hK hP (fun q h => hA q (Nat.le_trans hS.1 h))) rfl rfl hl.1 rfl (lv_room (Nat.le_of_ble_eq_true rfl)) dJ2_init_1 ⟨(Nat.le_of_ble_eq_true rfl), (Nat.le_of_ble_eq_true rfl)⟩) hS (fun _ h => h) (fun H locs hO hz hF hS => ?_)
  refine lv_aload_n hx hb dJ2_init_4 rfl (lv_at hl 0 rfl) ?_
  refine va_gets hx hb hE.2.2.2.2.1.1 hS hown (hts _ q86) (fun _ h => h) dJ2_init_5 ?_
  refine xk_putO hAt hK hS hO hq0 (C := RJ2) (T := TJ2) (N := 3) rfl 1 (by decide) (v := .ref (D.2 100)) (hts _ q88) (fun _ h => h) rfl (ty := (.array (.object "java/lang/Object"))) (by decide +kernel) rfl rfl tyJ2 tyJ2_ok nmJ2 (Nat.le_of_ble_eq_true rfl) in_J2 dJ2_init_8 (fun H locs hO oq hz hS => ?_)
  have hO : bO D q 5 [.int 0, .ref (D.2 100), .int 0] H := hO
  exact hR _ _ _ _ dJ2_init_11 ⟨0, D.2 100, hO, Or.inl ⟨rfl, rfl⟩⟩ hS
set_option maxHeartbeats 4000000 in
theorem e_valueOf (l : Launch) (D : xk_G) (A : Nat → Prop) (H0 : Heap) (z : Int32) : Met l yJ9_valueOf (ws_ yJ9_valueOf cJ9_valueOf 1 (some (.object "java/lang/Integer"))) (xk_Rm 3 80 1 1) (xe_Pre D A (fun G => G = H0) [.int z]) (xk_Pr A (fun r H => bX D r z H ∧ (H0.size ≤ r ∨ ¬ A r) ∧ ∀ x : Nat, x < H0.size → H[x]? = H0[x]?)) 1 1 A := by
  refine xe_startR (by decide +kernel) (Nat.le_of_ble_eq_true rfl) (Or.inl ⟨_, rfl⟩) ?_
  intro p e s m args below meth c Q hAt hin hK hE hA hP hR ls hl
  obtain ⟨hx, hb, hml, hown, hts⟩ := id hAt
  have hl : lv_has ls 1 [(0, .int z)] := hl
  have hS : va_S A s.heap s.heap [] := va_S.rf
  obtain ⟨hic, tt, bb, hct, hca, hcb⟩ := id hE.2.2.2.1
  refine lv_iload_n hx hb dJ9_valueOf_0 rfl (lv_at hl 0 rfl) ?_
  refine lv_bipush (v := (-128)) hx hb dJ9_valueOf_1 (by decide) ?_
  refine lv_icmp_lt (tgt := 23) hx hb dJ9_valueOf_3 (by decide) (fun c_1 => ?_) (fun c_1 => ?_)
  · skip
    refine xe_new hAt hK hS (ci := 6) (C := RJ9) (T := TJ9) (N := 1) in_J9 tyJ9 tyJ9_ok (hts _ q365) (hts _ q366) (hts _ q49) rfl (fs := [.int 0]) e_df9 (Nat.le_of_ble_eq_true rfl) (Nat.le_of_ble_eq_true rfl) dJ9_valueOf_23 (fun q23 H eq23 hO hz23 hF23 hS => ?_)
    have hA23 : A q23 := hA _ (by rw [eq23]; exact Nat.le_refl _)
    refine lv_dup hx hb dJ9_valueOf_26 rfl ?_
    refine lv_iload_n hx hb dJ9_valueOf_27 rfl (lv_at hl 0 rfl) ?_
    refine xe_cv (A1 := (fun x => s.heap.size ≤ x)) (va_runI (As := [.int z]) (rest := [.ref q23]) ⟨hx, hb, hml, hown, hts⟩ (e_intInit l D (fun x => s.heap.size ≤ x) q23 (by rw [eq23]; exact Nat.le_refl _) z) (cwI 1 hts (lw_meth q369) rfl rfl rfl (hts _ q49) (hts _ q367) (hts _ q368) rfl (by decide +kernel) ⟨Nat.le_of_ble_eq_true rfl, Nat.le_of_ble_eq_true rfl⟩) (xk_preS hK hO (fun q h => Nat.le_trans hS.1 h)) rfl rfl hl.1 rfl (lv_room (Nat.le_of_ble_eq_true rfl)) dJ9_valueOf_28 ⟨(Nat.le_of_ble_eq_true rfl), (Nat.le_of_ble_eq_true rfl)⟩) hS hA (fun H locs hO hz hF hS => ?_)
    exact hR _ _ _ _ _ dJ9_valueOf_31 ⟨bX_of hO, Or.inl (by rw [eq23, hP]; exact Nat.le_refl _), fun x hx => (hF x (by rw [hz23, hP]; omega) (by rw [hP]; omega)).trans ((hF23 x (by rw [hP]; exact hx)).trans (by rw [hP]))⟩ hS
  refine lv_iload_n hx hb dJ9_valueOf_6 rfl (lv_at hl 0 rfl) ?_
  refine va_gets hx hb hic hS hown (hts _ q361) (fun _ h => h) dJ9_valueOf_7 ?_
  refine lv_icmp_gt (tgt := 23) hx hb dJ9_valueOf_10 (by decide) (fun c_2 => ?_) (fun c_2 => ?_)
  · skip
    refine xe_new hAt hK hS (ci := 6) (C := RJ9) (T := TJ9) (N := 1) in_J9 tyJ9 tyJ9_ok (hts _ q365) (hts _ q366) (hts _ q49) rfl (fs := [.int 0]) e_df9 (Nat.le_of_ble_eq_true rfl) (Nat.le_of_ble_eq_true rfl) dJ9_valueOf_23 (fun q23 H eq23 hO hz23 hF23 hS => ?_)
    have hA23 : A q23 := hA _ (by rw [eq23]; exact Nat.le_refl _)
    refine lv_dup hx hb dJ9_valueOf_26 rfl ?_
    refine lv_iload_n hx hb dJ9_valueOf_27 rfl (lv_at hl 0 rfl) ?_
    refine xe_cv (A1 := (fun x => s.heap.size ≤ x)) (va_runI (As := [.int z]) (rest := [.ref q23]) ⟨hx, hb, hml, hown, hts⟩ (e_intInit l D (fun x => s.heap.size ≤ x) q23 (by rw [eq23]; exact Nat.le_refl _) z) (cwI 1 hts (lw_meth q369) rfl rfl rfl (hts _ q49) (hts _ q367) (hts _ q368) rfl (by decide +kernel) ⟨Nat.le_of_ble_eq_true rfl, Nat.le_of_ble_eq_true rfl⟩) (xk_preS hK hO (fun q h => Nat.le_trans hS.1 h)) rfl rfl hl.1 rfl (lv_room (Nat.le_of_ble_eq_true rfl)) dJ9_valueOf_28 ⟨(Nat.le_of_ble_eq_true rfl), (Nat.le_of_ble_eq_true rfl)⟩) hS hA (fun H locs hO hz hF hS => ?_)
    exact hR _ _ _ _ _ dJ9_valueOf_31 ⟨bX_of hO, Or.inl (by rw [eq23, hP]; exact Nat.le_refl _), fun x hx => (hF x (by rw [hz23, hP]; omega) (by rw [hP]; omega)).trans ((hF23 x (by rw [hP]; exact hx)).trans (by rw [hP]))⟩ hS
  obtain ⟨k, hk, ek, evk⟩ := xe_cN c_1 c_2
  refine va_gets hx hb hct hS hown (hts _ q363) (fun _ h => h) dJ9_valueOf_13 ?_
  refine lv_iload_n hx hb dJ9_valueOf_16 rfl (lv_at hl 0 rfl) ?_
  refine lv_sipush (v := 128) hx hb dJ9_valueOf_17 (by decide) ?_
  refine lv_iadd hx hb dJ9_valueOf_20 ?_
  refine xk_to (y := nI k) ek ?_
  refine vb_tq hx hb hca hS (vp_in_nI hk (by decide)) (v := .ref (bb k)) (by rw [nI_clamp (by omega)]) dJ9_valueOf_21 ?_
  refine W.widen (k := 1) (n := 1) (Nat.le_of_ble_eq_true rfl) (Nat.le_of_ble_eq_true rfl) ?_
  exact hR _ _ _ _ _ dJ9_valueOf_22 ⟨by rw [← evk]; exact xe_bxC hK hcb hS hk, Or.inr (by obtain ⟨_, _, _, _, z⟩ := hcb.1 k hk; exact z), fun x hx => by rw [hP]⟩ hS
