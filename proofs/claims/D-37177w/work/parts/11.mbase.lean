/-! THE MODEL's WORLD: one object, fourteen arrays; ad: their addresses; σ: the arrays that no hour changes; nw: now; az: aside; ir: isReached; n: its counts; th: thrown -/
set_option maxRecDepth 100000
abbrev mF (ad : Nat → Nat) (n : Nat → Nat) (th : Int32) : List Value :=
  [.ref (ad 1), .ref (ad 2), .int (nI (n 0)), .ref (ad 3), .int (nI (n 1)), .ref (ad 4), .ref (ad 5), .int (nI (n 2)), .ref (ad 6), .int (nI (n 3)), .ref (ad 7), .ref (ad 8), .ref (ad 9), .int (nI (n 4)), .ref (ad 10), .ref (ad 11), .ref (ad 12), .ref (ad 13), .int th, .ref (ad 14)]
abbrev mW (D : xk_G) (ad : Nat → Nat) (σ : Nat → Nat → Int32) (nw az ir : Nat → Int32) (n : Nat → Nat) (th : Int32) : va_W :=
  [(ad 0, .inr (2, mF ad n th)), (ad 1, .inl (D.2 0, 16, .inl (σ 0))), (ad 2, .inl (D.2 0, 5, .inl (σ 1))), (ad 3, .inl (D.2 0, 8, .inl (σ 2))), (ad 4, .inl (D.2 0, 4, .inl (σ 3))), (ad 5, .inl (D.2 0, 4, .inl (σ 4))), (ad 6, .inl (D.2 0, 4, .inl (σ 5))), (ad 7, .inl (D.2 0, 40, .inl (σ 6))), (ad 8, .inl (D.2 0, 40, .inl (σ 7))), (ad 9, .inl (D.2 0, 40, .inl (σ 8))), (ad 10, .inl (D.2 0, 8, .inl (σ 9))), (ad 11, .inl (D.2 0, 8, .inl (σ 10))), (ad 12, .inl (D.2 0, 155, .inl nw)), (ad 13, .inl (D.2 0, 155, .inl az)), (ad 14, .inl (D.2 4, 256, .inl ir))]
abbrev mP (D : xk_G) (ad : Nat → Nat) (σ : Nat → Nat → Int32) (nw az ir : Nat → Int32) (n : Nat → Nat) (th : Int32) (H : Heap) : Prop := va_P D.1 xk_CL (mW D ad σ nw az ir n th) H
/-- the model's cells are apart, and of the kind A -/
def mk_ok (A : Nat → Prop) (ad : Nat → Nat) : Prop := (∀ i j, i < 15 → j < 15 → ad i = ad j → i = j) ∧ ∀ i, i < 15 → A (ad i)
theorem mk_nth {D : xk_G} {ad : Nat → Nat} {σ : Nat → Nat → Int32} {nw az ir : Nat → Int32} {n : Nat → Nat} {th : Int32} {i : Nat} {q : Nat × va_E} (h : (mW D ad σ nw az ir n th)[i]? = some q) : i < 15 ∧ q.1 = ad i := by
  have h1 : ((mW D ad σ nw az ir n th).map (·.1))[i]? = some q.1 := by rw [List.getElem?_map, h]; rfl
  have h2 : (mW D ad σ nw az ir n th).map (·.1) = (List.range 15).map ad := rfl
  rw [h2, List.getElem?_map] at h1
  have hi : i < 15 := by
    have h3 := (List.getElem?_eq_some_iff.mp h).1
    exact h3
  rw [List.getElem?_range hi] at h1
  exact ⟨hi, (Option.some.inj h1).symm⟩
theorem xk_ifp {c : Prop} [Decidable c] {a b : Prop} (h : c) (x : a) : (if c then a else b) := by rw [if_pos h]; exact x
theorem xk_ifn {c : Prop} [Decidable c] {a b : Prop} (h : ¬ c) (x : b) : (if c then a else b) := by rw [if_neg h]; exact x
theorem xk_narb (P : Prop) [Decidable P] : vp_nar .boolean (xk_b P) = xk_b P := by
  unfold xk_b
  split <;> decide +kernel
theorem mk_D {A : Nat → Prop} {D : xk_G} {ad : Nat → Nat} {σ : Nat → Nat → Int32} {nw az ir : Nat → Int32} {n : Nat → Nat} {th : Int32} (h : mk_ok A ad) : va_D A (mW D ad σ nw az ir n th) := by
  refine ⟨fun i j p q hi hj e => ?_, fun k q hk => ?_⟩
  · obtain ⟨h1, e1⟩ := mk_nth hi
    obtain ⟨h2, e2⟩ := mk_nth hj
    exact h.1 i j h1 h2 (by rw [← e1, ← e2]; exact e)
  · obtain ⟨h1, e1⟩ := mk_nth hk
    rw [e1]
    exact h.2 k h1
section MK
variable {p : Program} {l : Launch} {e : Env} {R : Room} {s : State} {m : MethodId} {args : Array Value} {below : List Frame} {meth : Method} {c : Code} {H : Heap} {locs : List Loc} {cells slots : Nat} {Q : State → Prop}
variable {cc bytes : ByteArray} {pc maxL nL index : Nat} {ls : Array Slot} {rest st0 As : List Value} {D : xk_G} {A : Nat → Prop} {own : String} {y : MethodName} {rm : Room} {ret : Option FieldType}
variable {ad : Nat → Nat} {σ σ' : Nat → Nat → Int32} {nw nw' az az' ir ir' : Nat → Int32} {n n' : Nat → Nat} {th th' : Int32}
theorem mk_get (S : xk_At p s m args meth c cc nL RX3) (hK : xk_K D s) (hP : mP D ad σ nw az ir n th H) (k : Nat) (hk : k < 20) {v : Value} (hv : (mF ad n th)[k]? = some v) (hlink : (Cond.fieldLink RX3 index RX3 (TX3 k).2.1 (TX3 k).2.2.1).before args s = true) (hsame : (TX3 k).1 = RX3) (hdg : decode cc pc = .ok (.getfield index, 3))
    (kk : W p l e R s m args below meth c H locs cells slots Q (F0 m (pc + 3) ls (v :: rest))) : W p l e R s m args below meth c H locs cells slots Q (F0 m pc ls (.ref (ad 0) :: rest)) :=
  va_get (D := D.1) (ci := 2) (v := v) (C := RX3) (T := TX3) (N := 20) S.1 S.2.1 S.2.2.2.2 in_X3 S.2.2.2.1 hK.1 hP 0 rfl rfl k hk hlink (fun x h => by rw [hsame] at h; exact h) hv hdg kk
theorem mk_put (S : xk_At p s m args meth c cc nL RX3) (hK : xk_K D s) (hJ : mk_ok A ad) (hP : mP D ad σ nw az ir n th H) (hS : va_S A s.heap H locs) (k : Nat) (hk : k < 20) {v : Value} (hlink : (Cond.fieldLink RX3 index RX3 (TX3 k).2.1 (TX3 k).2.2.1).before args s = true) (hsame : (TX3 k).1 = RX3) (hfin : (TX3 k).2.2.2 = false) {ty : FieldType} (hd : parseFieldDescriptor (TX3 k).2.2.1 = some ty) (hn : narrow ty v = v) (hfit : fits ty v = true)
    {ad' : Nat → Nat} (hset : (mF ad n th).set k v = mF ad' n' th') (h0 : ad' 0 = ad 0) (hdg : decode cc pc = .ok (.putfield index, 3))
    (kk : ∀ (H : Heap) (locs : List Loc), va_P D.1 xk_CL ((mW D ad σ nw az ir n th).set 0 (ad 0, .inr (2, mF ad' n' th'))) H → va_S A s.heap H locs → W p l e R s m args below meth c H locs cells slots Q (F0 m (pc + 3) ls rest)) : W p l e R s m args below meth c H locs cells slots Q (F0 m pc ls (v :: .ref (ad 0) :: rest)) :=
  va_put (D := D.1) (ci := 2) (v := v) (ty := ty) (C := RX3) (T := TX3) (N := 20) S.1 S.2.1 S.2.2.2.2 in_X3 tyX3 tyX3_ok nmX3 S.2.2.2.1 hK.1 hP (mk_D hJ) hS 0 rfl rfl k hk hlink (fun x h => by rw [hsame] at h; exact h) hfin hd hn hfit hk hdg (fun H1 l1 hP1 _ hS1 => kk H1 l1 (by rw [← hset]; exact hP1) hS1)
theorem mk_iald (S : xk_At p s m args meth c cc nL own) (hK : xk_K D s) (hP : mP D ad σ nw az ir n th H) (i : Nat) {N a : Nat} {f : Nat → Int32} (ha : (mW D ad σ nw az ir n th)[i]? = some (a, .inl (D.2 0, N, .inl f))) (k : Nat) (hk : k < N) (hN : N < 2147483648) (hdg : decode cc pc = .ok (.iaload, 1))
    (kk : W p l e R s m args below meth c H locs cells slots Q (F0 m (pc + 1) ls (.int (f k) :: rest))) : W p l e R s m args below meth c H locs cells slots Q (F0 m pc ls (.int (nI k) :: .ref a :: rest)) := by
  refine va_iald (f := f) S.1 S.2.1 hK.1 hP i 0 ha rfl (vp_in_nI hk hN) hdg ?_
  rw [nI_clamp (by omega)]
  exact kk
theorem mk_ialdx (S : xk_At p s m args meth c cc nL own) (hK : xk_K D s) (hP : mP D ad σ nw az ir n th H) (i : Nat) {N a : Nat} {f : Nat → Int32} (ha : (mW D ad σ nw az ir n th)[i]? = some (a, .inl (D.2 0, N, .inl f))) {x : Int32} (hx : vp_in x N) (hdg : decode cc pc = .ok (.iaload, 1))
    (kk : W p l e R s m args below meth c H locs cells slots Q (F0 m (pc + 1) ls (.int (f x.toNatClampNeg) :: rest))) : W p l e R s m args below meth c H locs cells slots Q (F0 m pc ls (.int x :: .ref a :: rest)) :=
  va_iald (f := f) S.1 S.2.1 hK.1 hP i 0 ha rfl hx hdg kk
theorem mk_iast (S : xk_At p s m args meth c cc nL own) (hK : xk_K D s) (hJ : mk_ok A ad) (hP : mP D ad σ nw az ir n th H) (hS : va_S A s.heap H locs) (i : Nat) {N a : Nat} {f : Nat → Int32} (ha : (mW D ad σ nw az ir n th)[i]? = some (a, .inl (D.2 0, N, .inl f))) (k : Nat) (hk : k < N) (hN : N < 2147483648) {x : Int32} (hset : (mW D ad σ nw az ir n th).set i (a, .inl (D.2 0, N, .inl (upd f k x))) = mW D ad σ' nw' az' ir n th) (hdg : decode cc pc = .ok (.iastore, 1))
    (kk : ∀ (H : Heap) (locs : List Loc), mP D ad σ' nw' az' ir n th H → va_S A s.heap H locs → W p l e R s m args below meth c H locs cells slots Q (F0 m (pc + 1) ls rest)) : W p l e R s m args below meth c H locs cells slots Q (F0 m pc ls (.int x :: .int (nI k) :: .ref a :: rest)) := by
  refine va_iast (f := f) S.1 S.2.1 hK.1 hP (mk_D hJ) hS i 0 ha rfl (vp_in_nI hk hN) hdg (fun H1 l1 hP1 _ hS1 => ?_)
  rw [nI_clamp (by omega), hset] at hP1
  exact kk H1 l1 hP1 hS1
theorem mk_iastx (S : xk_At p s m args meth c cc nL own) (hK : xk_K D s) (hJ : mk_ok A ad) (hP : mP D ad σ nw az ir n th H) (hS : va_S A s.heap H locs) (i : Nat) {N a : Nat} {f : Nat → Int32} (ha : (mW D ad σ nw az ir n th)[i]? = some (a, .inl (D.2 0, N, .inl f))) {y x : Int32} (hy : vp_in y N) (hset : (mW D ad σ nw az ir n th).set i (a, .inl (D.2 0, N, .inl (upd f y.toNatClampNeg x))) = mW D ad σ' nw' az' ir n th) (hdg : decode cc pc = .ok (.iastore, 1))
    (kk : ∀ (H : Heap) (locs : List Loc), mP D ad σ' nw' az' ir n th H → va_S A s.heap H locs → W p l e R s m args below meth c H locs cells slots Q (F0 m (pc + 1) ls rest)) : W p l e R s m args below meth c H locs cells slots Q (F0 m pc ls (.int x :: .int y :: .ref a :: rest)) := by
  refine va_iast (f := f) S.1 S.2.1 hK.1 hP (mk_D hJ) hS i 0 ha rfl hy hdg (fun H1 l1 hP1 _ hS1 => ?_)
  rw [hset] at hP1
  exact kk H1 l1 hP1 hS1
theorem mk_zald (S : xk_At p s m args meth c cc nL own) (hK : xk_K D s) (hP : mP D ad σ nw az ir n th H) (k : Nat) (hk : k < 256) (hdg : decode cc pc = .ok (.baload, 1))
    (kk : W p l e R s m args below meth c H locs cells slots Q (F0 m (pc + 1) ls (.int (ir k) :: rest))) : W p l e R s m args below meth c H locs cells slots Q (F0 m pc ls (.int (nI k) :: .ref (ad 14) :: rest)) := by
  refine va_zald (f := ir) S.1 S.2.1 hK.1 hP 14 4 rfl rfl (vp_in_nI hk (by decide)) hdg ?_
  rw [nI_clamp (by omega)]
  exact kk
theorem mk_zast (S : xk_At p s m args meth c cc nL own) (hK : xk_K D s) (hJ : mk_ok A ad) (hP : mP D ad σ nw az ir n th H) (hS : va_S A s.heap H locs) (k : Nat) (hk : k < 256) {x : Int32} (hx : vp_nar .boolean x = x) (hset : (mW D ad σ nw az ir n th).set 14 (ad 14, .inl (D.2 4, 256, .inl (upd ir k x))) = mW D ad σ nw az ir' n th) (hdg : decode cc pc = .ok (.bastore, 1))
    (kk : ∀ (H : Heap) (locs : List Loc), mP D ad σ nw az ir' n th H → va_S A s.heap H locs → W p l e R s m args below meth c H locs cells slots Q (F0 m (pc + 1) ls rest)) : W p l e R s m args below meth c H locs cells slots Q (F0 m pc ls (.int x :: .int (nI k) :: .ref (ad 14) :: rest)) := by
  refine va_zast (f := ir) S.1 S.2.1 hK.1 hP (mk_D hJ) hS 14 4 rfl rfl (vp_in_nI hk (by decide)) hdg (fun H1 l1 hP1 _ hS1 => ?_)
  rw [nI_clamp (by omega), hx, hset] at hP1
  exact kk H1 l1 hP1 hS1
/-- a call of one of the model's own methods -/
theorem mk_ciV (S : xk_At p s m args meth c cc nL own) (hK : xk_K D s) (hP : mP D ad σ nw az ir n th H) (hA : ∀ q, s.heap.size ≤ q → A q) (hS : va_S A s.heap H locs) {k : Nat} {P' : Int32 → Heap → Prop}
    (hM : Met l y (ws_ y bytes maxL ret) rm (xk_Pre D A (mP D ad σ nw az ir n th) (.ref (ad 0) :: As)) (xk_Pi A P') 0 0 A) (cw : CallW R s args own RX3 index y bytes maxL ret (ws_ y bytes maxL ret) rm 0 0 k) (hn : As.length = k) (hsz : ls.size = nL) (hst : st0 = As.reverse ++ .ref (ad 0) :: rest) (hroom : (rest.map fun v => v.category).sum ≤ 8) (hdg : decode cc pc = .ok (.invokevirtual index, 3)) (hf : cells ≤ R.cells ∧ slots ≤ R.slots)
    (kk : ∀ (r : Int32) (H : Heap) (locs : List Loc), P' r H → va_S A s.heap H locs → W p l e R s m args below meth c H locs cells slots Q (F0 m (pc + 3) ls (.int r :: rest))) : W p l e R s m args below meth c H locs cells slots Q (F0 m pc ls st0) :=
  xk_ci (mc := 0) (ms := 0) (va_runV (As := As) (rest := rest) ⟨S.1, S.2.1, S.2.2.1, S.2.2.2.1, S.2.2.2.2⟩ hM cw (xk_preV hK hP (fun q h => hA q (Nat.le_trans hS.1 h)) (va_recv (q := (RX3, TX3, 20)) hK.1 hP (ci := 2) (q0 := 0) rfl rfl)) rfl hn hsz hst (lv_room hroom) hdg hf) hS kk
theorem mk_cvV (S : xk_At p s m args meth c cc nL own) (hK : xk_K D s) (hP : mP D ad σ nw az ir n th H) (hA : ∀ q, s.heap.size ≤ q → A q) (hS : va_S A s.heap H locs) {k : Nat} {P' : Heap → Prop}
    (hM : Met l y (ws_ y bytes maxL none) rm (xk_Pre D A (mP D ad σ nw az ir n th) (.ref (ad 0) :: As)) (xk_Pv A P') 0 0 A) (cw : CallW R s args own RX3 index y bytes maxL none (ws_ y bytes maxL none) rm 0 0 k) (hn : As.length = k) (hsz : ls.size = nL) (hst : st0 = As.reverse ++ .ref (ad 0) :: rest) (hroom : (rest.map fun v => v.category).sum ≤ 8) (hdg : decode cc pc = .ok (.invokevirtual index, 3)) (hf : cells ≤ R.cells ∧ slots ≤ R.slots)
    (kk : ∀ (H : Heap) (locs : List Loc), P' H → va_S A s.heap H locs → W p l e R s m args below meth c H locs cells slots Q (F0 m (pc + 3) ls rest)) : W p l e R s m args below meth c H locs cells slots Q (F0 m pc ls st0) :=
  xk_cv (mc := 0) (ms := 0) (va_runV (As := As) (rest := rest) ⟨S.1, S.2.1, S.2.2.1, S.2.2.2.1, S.2.2.2.2⟩ hM cw (xk_preV hK hP (fun q h => hA q (Nat.le_trans hS.1 h)) (va_recv (q := (RX3, TX3, 20)) hK.1 hP (ci := 2) (q0 := 0) rfl rfl)) rfl hn hsz hst (lv_room hroom) hdg hf) hS kk
/-- a call of a static method that leaves the heap as any picture has it -/
theorem mk_ciS (S : xk_At p s m args meth c cc nL own) (hK : xk_K D s) {P : Heap → Prop} (hP : P H) (hA : ∀ q, s.heap.size ≤ q → A q) (hS : va_S A s.heap H locs) {k : Nat} {P' : Int32 → Heap → Prop}
    (hM : Met l y (ws_ y bytes maxL ret) rm (xk_Pre D A P As) (xk_Pi A P') 0 0 A) (cw : CallB R s args own index y bytes maxL ret (ws_ y bytes maxL ret) rm 0 0 k ∧ (Cond.static y).before args s = true) (hn : As.length = k) (hsz : ls.size = nL) (hst : st0 = As.reverse ++ rest) (hroom : (rest.map fun v => v.category).sum ≤ 8) (hdg : decode cc pc = .ok (.invokestatic index, 3)) (hf : cells ≤ R.cells ∧ slots ≤ R.slots)
    (kk : ∀ (r : Int32) (H : Heap) (locs : List Loc), P' r H → va_S A s.heap H locs → W p l e R s m args below meth c H locs cells slots Q (F0 m (pc + 3) ls (.int r :: rest))) : W p l e R s m args below meth c H locs cells slots Q (F0 m pc ls st0) :=
  xk_ci (mc := 0) (ms := 0) (va_runS (As := As) (rest := rest) ⟨S.1, S.2.1, S.2.2.1, S.2.2.2.1, S.2.2.2.2⟩ hM cw (xk_preS hK hP (fun q h => hA q (Nat.le_trans hS.1 h))) rfl hn hsz hst (lv_room hroom) hdg hf) hS kk
/-! compares of numbers that count -/
theorem mk_ge (hx : p.tables.exec = Jvm.exec) (hb : c.code = cc) {a b : Nat} (ha : a < 2147483648) (hb2 : b < 2147483648) {off : Int} {tgt : Nat} (hdg : decode cc pc = .ok (.if_icmp .ge off, 3)) (ht : (pc : Int) + off = (tgt : Int))
    (kt : b ≤ a → W p l e R s m args below meth c H locs cells slots Q (F0 m tgt ls rest)) (kf : a < b → W p l e R s m args below meth c H locs cells slots Q (F0 m (pc + 3) ls rest)) : W p l e R s m args below meth c H locs cells slots Q (F0 m pc ls (.int (nI b) :: .int (nI a) :: rest)) :=
  lv_icmp_ge hx hb hdg ht (fun h => kt ((nI_leI hb2 ha).mp h)) (fun h => kf (by rcases Nat.lt_or_ge a b with q | q; exact q; exact absurd ((nI_leI hb2 ha).mpr q) h))
theorem mk_lt (hx : p.tables.exec = Jvm.exec) (hb : c.code = cc) {a b : Nat} (ha : a < 2147483648) (hb2 : b < 2147483648) {off : Int} {tgt : Nat} (hdg : decode cc pc = .ok (.if_icmp .lt off, 3)) (ht : (pc : Int) + off = (tgt : Int))
    (kt : a < b → W p l e R s m args below meth c H locs cells slots Q (F0 m tgt ls rest)) (kf : b ≤ a → W p l e R s m args below meth c H locs cells slots Q (F0 m (pc + 3) ls rest)) : W p l e R s m args below meth c H locs cells slots Q (F0 m pc ls (.int (nI b) :: .int (nI a) :: rest)) :=
  lv_icmp_lt hx hb hdg ht (fun h => kt ((nI_ltI ha hb2).mp h)) (fun h => kf (by rcases Nat.lt_or_ge a b with q | q; exact absurd ((nI_ltI ha hb2).mpr q) h; exact q))
theorem mk_ne (hx : p.tables.exec = Jvm.exec) (hb : c.code = cc) {a b : Nat} (ha : a < 2147483648) (hb2 : b < 2147483648) {off : Int} {tgt : Nat} (hdg : decode cc pc = .ok (.if_icmp .ne off, 3)) (ht : (pc : Int) + off = (tgt : Int))
    (kt : a ≠ b → W p l e R s m args below meth c H locs cells slots Q (F0 m tgt ls rest)) (kf : a = b → W p l e R s m args below meth c H locs cells slots Q (F0 m (pc + 3) ls rest)) : W p l e R s m args below meth c H locs cells slots Q (F0 m pc ls (.int (nI b) :: .int (nI a) :: rest)) :=
  lv_icmp_ne hx hb hdg ht (fun h => kt (fun q => h (by rw [q]))) (fun h => kf ((nI_eq ha hb2).mp h))
end MK
